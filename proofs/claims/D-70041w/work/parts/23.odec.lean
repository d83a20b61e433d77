set_option maxRecDepth 100000
def dkwX0_init_8 : List UInt8 := [180, 0, 129, 27, 187, 0, 127, 89, 183, 0, 133, 83, 132, 1, 1, 167, 255, 235, 177]
abbrev dktX0_init_8 : List UInt8 := dkwX0_init_8 ++ []
def dkwX0_init_7 : List UInt8 := [17, 1, 224, 188, 8, 181, 0, 124, 42, 7, 189, 0, 127, 181, 0, 129, 3, 60, 27, 7, 162, 0, 22, 42]
abbrev dktX0_init_7 : List UInt8 := dkwX0_init_7 ++ dktX0_init_8
def dkwX0_init_6 : List UInt8 := [181, 0, 57, 42, 17, 1, 224, 188, 8, 181, 0, 87, 42, 17, 0, 160, 188, 8, 181, 0, 121, 42]
abbrev dktX0_init_6 : List UInt8 := dkwX0_init_6 ++ dktX0_init_7
def dkwX0_init_5 : List UInt8 := [7, 188, 10, 181, 0, 20, 42, 7, 188, 10, 181, 0, 54, 42, 7, 188, 4, 181, 0, 28, 42, 7, 188, 10]
abbrev dktX0_init_5 : List UInt8 := dkwX0_init_5 ++ dktX0_init_6
def dkwX0_init_4 : List UInt8 := [183, 0, 106, 83, 181, 0, 114, 42, 16, 8, 188, 8, 181, 0, 7, 42, 16, 18, 188, 8, 181, 0, 118, 42]
abbrev dktX0_init_4 : List UInt8 := dkwX0_init_4 ++ dktX0_init_5
def dkwX0_init_3 : List UInt8 := [181, 0, 111, 42, 5, 189, 0, 16, 89, 3, 187, 0, 16, 89, 183, 0, 106, 83, 89, 4, 187, 0, 16, 89]
abbrev dktX0_init_3 : List UInt8 := dkwX0_init_3 ++ dktX0_init_4
def dkwX0_init_2 : List UInt8 := [83, 181, 0, 60, 42, 187, 0, 16, 89, 183, 0, 106, 181, 0, 107, 42, 187, 0, 16, 89, 183, 0, 106]
abbrev dktX0_init_2 : List UInt8 := dkwX0_init_2 ++ dktX0_init_3
def dkwX0_init_1 : List UInt8 := [89, 183, 0, 99, 83, 89, 5, 187, 0, 100, 89, 183, 0, 102, 83, 89, 6, 187, 0, 103, 89, 183, 0, 105]
abbrev dktX0_init_1 : List UInt8 := dkwX0_init_1 ++ dktX0_init_2
def dkwX0_init_0 : List UInt8 := [42, 183, 0, 90, 42, 7, 189, 0, 71, 89, 3, 187, 0, 71, 89, 183, 0, 96, 83, 89, 4, 187, 0, 97]
abbrev dktX0_init_0 : List UInt8 := dkwX0_init_0 ++ dktX0_init_1
theorem dksX0_init_0 : cX0_init.data.toList.drop 0 = dktX0_init_0 := by decide +kernel
theorem dksX0_init_1 : cX0_init.data.toList.drop 24 = dktX0_init_1 := dk_seg dksX0_init_0 24 rfl rfl
theorem dksX0_init_2 : cX0_init.data.toList.drop 48 = dktX0_init_2 := dk_seg dksX0_init_1 24 rfl rfl
theorem dksX0_init_3 : cX0_init.data.toList.drop 71 = dktX0_init_3 := dk_seg dksX0_init_2 23 rfl rfl
theorem dksX0_init_4 : cX0_init.data.toList.drop 95 = dktX0_init_4 := dk_seg dksX0_init_3 24 rfl rfl
theorem dksX0_init_5 : cX0_init.data.toList.drop 119 = dktX0_init_5 := dk_seg dksX0_init_4 24 rfl rfl
theorem dksX0_init_6 : cX0_init.data.toList.drop 143 = dktX0_init_6 := dk_seg dksX0_init_5 24 rfl rfl
theorem dksX0_init_7 : cX0_init.data.toList.drop 165 = dktX0_init_7 := dk_seg dksX0_init_6 22 rfl rfl
theorem dksX0_init_8 : cX0_init.data.toList.drop 189 = dktX0_init_8 := dk_seg dksX0_init_7 24 rfl rfl
theorem dX0_init_0 : decode cX0_init 0 = .ok (.aload_n 0, 1) := dk_42 (dk_at dksX0_init_0 0 rfl rfl)
theorem dX0_init_1 : decode cX0_init 1 = .ok (.invokespecial 90, 3) := dk_183 0 90 (dk_at dksX0_init_0 1 rfl rfl)
theorem dX0_init_4 : decode cX0_init 4 = .ok (.aload_n 0, 1) := dk_42 (dk_at dksX0_init_0 4 rfl rfl)
theorem dX0_init_5 : decode cX0_init 5 = .ok (.iconst 4, 1) := dk_7 (dk_at dksX0_init_0 5 rfl rfl)
theorem dX0_init_6 : decode cX0_init 6 = .ok (.anewarray 71, 3) := dk_189 0 71 (dk_at dksX0_init_0 6 rfl rfl)
theorem dX0_init_9 : decode cX0_init 9 = .ok (.dup, 1) := dk_89 (dk_at dksX0_init_0 9 rfl rfl)
theorem dX0_init_10 : decode cX0_init 10 = .ok (.iconst 0, 1) := dk_3 (dk_at dksX0_init_0 10 rfl rfl)
theorem dX0_init_11 : decode cX0_init 11 = .ok (.new 71, 3) := dk_187 0 71 (dk_at dksX0_init_0 11 rfl rfl)
theorem dX0_init_14 : decode cX0_init 14 = .ok (.dup, 1) := dk_89 (dk_at dksX0_init_0 14 rfl rfl)
theorem dX0_init_15 : decode cX0_init 15 = .ok (.invokespecial 96, 3) := dk_183 0 96 (dk_at dksX0_init_0 15 rfl rfl)
theorem dX0_init_18 : decode cX0_init 18 = .ok (.aastore, 1) := dk_83 (dk_at dksX0_init_0 18 rfl rfl)
theorem dX0_init_19 : decode cX0_init 19 = .ok (.dup, 1) := dk_89 (dk_at dksX0_init_0 19 rfl rfl)
theorem dX0_init_20 : decode cX0_init 20 = .ok (.iconst 1, 1) := dk_4 (dk_at dksX0_init_0 20 rfl rfl)
theorem dX0_init_21 : decode cX0_init 21 = .ok (.new 97, 3) := dk_187 0 97 (dk_at dksX0_init_0 21 rfl rfl)
theorem dX0_init_24 : decode cX0_init 24 = .ok (.dup, 1) := dk_89 (dk_at dksX0_init_1 0 rfl rfl)
theorem dX0_init_25 : decode cX0_init 25 = .ok (.invokespecial 99, 3) := dk_183 0 99 (dk_at dksX0_init_1 1 rfl rfl)
theorem dX0_init_28 : decode cX0_init 28 = .ok (.aastore, 1) := dk_83 (dk_at dksX0_init_1 4 rfl rfl)
theorem dX0_init_29 : decode cX0_init 29 = .ok (.dup, 1) := dk_89 (dk_at dksX0_init_1 5 rfl rfl)
theorem dX0_init_30 : decode cX0_init 30 = .ok (.iconst 2, 1) := dk_5 (dk_at dksX0_init_1 6 rfl rfl)
theorem dX0_init_31 : decode cX0_init 31 = .ok (.new 100, 3) := dk_187 0 100 (dk_at dksX0_init_1 7 rfl rfl)
theorem dX0_init_34 : decode cX0_init 34 = .ok (.dup, 1) := dk_89 (dk_at dksX0_init_1 10 rfl rfl)
theorem dX0_init_35 : decode cX0_init 35 = .ok (.invokespecial 102, 3) := dk_183 0 102 (dk_at dksX0_init_1 11 rfl rfl)
theorem dX0_init_38 : decode cX0_init 38 = .ok (.aastore, 1) := dk_83 (dk_at dksX0_init_1 14 rfl rfl)
theorem dX0_init_39 : decode cX0_init 39 = .ok (.dup, 1) := dk_89 (dk_at dksX0_init_1 15 rfl rfl)
theorem dX0_init_40 : decode cX0_init 40 = .ok (.iconst 3, 1) := dk_6 (dk_at dksX0_init_1 16 rfl rfl)
theorem dX0_init_41 : decode cX0_init 41 = .ok (.new 103, 3) := dk_187 0 103 (dk_at dksX0_init_1 17 rfl rfl)
theorem dX0_init_44 : decode cX0_init 44 = .ok (.dup, 1) := dk_89 (dk_at dksX0_init_1 20 rfl rfl)
theorem dX0_init_45 : decode cX0_init 45 = .ok (.invokespecial 105, 3) := dk_183 0 105 (dk_at dksX0_init_1 21 rfl rfl)
theorem dX0_init_48 : decode cX0_init 48 = .ok (.aastore, 1) := dk_83 (dk_at dksX0_init_2 0 rfl rfl)
theorem dX0_init_49 : decode cX0_init 49 = .ok (.putfield 60, 3) := dk_181 0 60 (dk_at dksX0_init_2 1 rfl rfl)
theorem dX0_init_52 : decode cX0_init 52 = .ok (.aload_n 0, 1) := dk_42 (dk_at dksX0_init_2 4 rfl rfl)
theorem dX0_init_53 : decode cX0_init 53 = .ok (.new 16, 3) := dk_187 0 16 (dk_at dksX0_init_2 5 rfl rfl)
theorem dX0_init_56 : decode cX0_init 56 = .ok (.dup, 1) := dk_89 (dk_at dksX0_init_2 8 rfl rfl)
theorem dX0_init_57 : decode cX0_init 57 = .ok (.invokespecial 106, 3) := dk_183 0 106 (dk_at dksX0_init_2 9 rfl rfl)
theorem dX0_init_60 : decode cX0_init 60 = .ok (.putfield 107, 3) := dk_181 0 107 (dk_at dksX0_init_2 12 rfl rfl)
theorem dX0_init_63 : decode cX0_init 63 = .ok (.aload_n 0, 1) := dk_42 (dk_at dksX0_init_2 15 rfl rfl)
theorem dX0_init_64 : decode cX0_init 64 = .ok (.new 16, 3) := dk_187 0 16 (dk_at dksX0_init_2 16 rfl rfl)
theorem dX0_init_67 : decode cX0_init 67 = .ok (.dup, 1) := dk_89 (dk_at dksX0_init_2 19 rfl rfl)
theorem dX0_init_68 : decode cX0_init 68 = .ok (.invokespecial 106, 3) := dk_183 0 106 (dk_at dksX0_init_2 20 rfl rfl)
theorem dX0_init_71 : decode cX0_init 71 = .ok (.putfield 111, 3) := dk_181 0 111 (dk_at dksX0_init_3 0 rfl rfl)
theorem dX0_init_74 : decode cX0_init 74 = .ok (.aload_n 0, 1) := dk_42 (dk_at dksX0_init_3 3 rfl rfl)
theorem dX0_init_75 : decode cX0_init 75 = .ok (.iconst 2, 1) := dk_5 (dk_at dksX0_init_3 4 rfl rfl)
theorem dX0_init_76 : decode cX0_init 76 = .ok (.anewarray 16, 3) := dk_189 0 16 (dk_at dksX0_init_3 5 rfl rfl)
theorem dX0_init_79 : decode cX0_init 79 = .ok (.dup, 1) := dk_89 (dk_at dksX0_init_3 8 rfl rfl)
theorem dX0_init_80 : decode cX0_init 80 = .ok (.iconst 0, 1) := dk_3 (dk_at dksX0_init_3 9 rfl rfl)
theorem dX0_init_81 : decode cX0_init 81 = .ok (.new 16, 3) := dk_187 0 16 (dk_at dksX0_init_3 10 rfl rfl)
theorem dX0_init_84 : decode cX0_init 84 = .ok (.dup, 1) := dk_89 (dk_at dksX0_init_3 13 rfl rfl)
theorem dX0_init_85 : decode cX0_init 85 = .ok (.invokespecial 106, 3) := dk_183 0 106 (dk_at dksX0_init_3 14 rfl rfl)
theorem dX0_init_88 : decode cX0_init 88 = .ok (.aastore, 1) := dk_83 (dk_at dksX0_init_3 17 rfl rfl)
theorem dX0_init_89 : decode cX0_init 89 = .ok (.dup, 1) := dk_89 (dk_at dksX0_init_3 18 rfl rfl)
theorem dX0_init_90 : decode cX0_init 90 = .ok (.iconst 1, 1) := dk_4 (dk_at dksX0_init_3 19 rfl rfl)
theorem dX0_init_91 : decode cX0_init 91 = .ok (.new 16, 3) := dk_187 0 16 (dk_at dksX0_init_3 20 rfl rfl)
theorem dX0_init_94 : decode cX0_init 94 = .ok (.dup, 1) := dk_89 (dk_at dksX0_init_3 23 rfl rfl)
theorem dX0_init_95 : decode cX0_init 95 = .ok (.invokespecial 106, 3) := dk_183 0 106 (dk_at dksX0_init_4 0 rfl rfl)
theorem dX0_init_98 : decode cX0_init 98 = .ok (.aastore, 1) := dk_83 (dk_at dksX0_init_4 3 rfl rfl)
theorem dX0_init_99 : decode cX0_init 99 = .ok (.putfield 114, 3) := dk_181 0 114 (dk_at dksX0_init_4 4 rfl rfl)
theorem dX0_init_102 : decode cX0_init 102 = .ok (.aload_n 0, 1) := dk_42 (dk_at dksX0_init_4 7 rfl rfl)
theorem dX0_init_103 : decode cX0_init 103 = .ok (.bipush 8, 2) := dk_16 8 (dk_at dksX0_init_4 8 rfl rfl)
theorem dX0_init_105 : decode cX0_init 105 = .ok (.newarray .byte, 2) := dk_188_8 (dk_at dksX0_init_4 10 rfl rfl)
theorem dX0_init_107 : decode cX0_init 107 = .ok (.putfield 7, 3) := dk_181 0 7 (dk_at dksX0_init_4 12 rfl rfl)
theorem dX0_init_110 : decode cX0_init 110 = .ok (.aload_n 0, 1) := dk_42 (dk_at dksX0_init_4 15 rfl rfl)
theorem dX0_init_111 : decode cX0_init 111 = .ok (.bipush 18, 2) := dk_16 18 (dk_at dksX0_init_4 16 rfl rfl)
theorem dX0_init_113 : decode cX0_init 113 = .ok (.newarray .byte, 2) := dk_188_8 (dk_at dksX0_init_4 18 rfl rfl)
theorem dX0_init_115 : decode cX0_init 115 = .ok (.putfield 118, 3) := dk_181 0 118 (dk_at dksX0_init_4 20 rfl rfl)
theorem dX0_init_118 : decode cX0_init 118 = .ok (.aload_n 0, 1) := dk_42 (dk_at dksX0_init_4 23 rfl rfl)
theorem dX0_init_119 : decode cX0_init 119 = .ok (.iconst 4, 1) := dk_7 (dk_at dksX0_init_5 0 rfl rfl)
theorem dX0_init_120 : decode cX0_init 120 = .ok (.newarray .int, 2) := dk_188_10 (dk_at dksX0_init_5 1 rfl rfl)
theorem dX0_init_122 : decode cX0_init 122 = .ok (.putfield 20, 3) := dk_181 0 20 (dk_at dksX0_init_5 3 rfl rfl)
theorem dX0_init_125 : decode cX0_init 125 = .ok (.aload_n 0, 1) := dk_42 (dk_at dksX0_init_5 6 rfl rfl)
theorem dX0_init_126 : decode cX0_init 126 = .ok (.iconst 4, 1) := dk_7 (dk_at dksX0_init_5 7 rfl rfl)
theorem dX0_init_127 : decode cX0_init 127 = .ok (.newarray .int, 2) := dk_188_10 (dk_at dksX0_init_5 8 rfl rfl)
theorem dX0_init_129 : decode cX0_init 129 = .ok (.putfield 54, 3) := dk_181 0 54 (dk_at dksX0_init_5 10 rfl rfl)
theorem dX0_init_132 : decode cX0_init 132 = .ok (.aload_n 0, 1) := dk_42 (dk_at dksX0_init_5 13 rfl rfl)
theorem dX0_init_133 : decode cX0_init 133 = .ok (.iconst 4, 1) := dk_7 (dk_at dksX0_init_5 14 rfl rfl)
theorem dX0_init_134 : decode cX0_init 134 = .ok (.newarray .boolean, 2) := dk_188_4 (dk_at dksX0_init_5 15 rfl rfl)
theorem dX0_init_136 : decode cX0_init 136 = .ok (.putfield 28, 3) := dk_181 0 28 (dk_at dksX0_init_5 17 rfl rfl)
theorem dX0_init_139 : decode cX0_init 139 = .ok (.aload_n 0, 1) := dk_42 (dk_at dksX0_init_5 20 rfl rfl)
theorem dX0_init_140 : decode cX0_init 140 = .ok (.iconst 4, 1) := dk_7 (dk_at dksX0_init_5 21 rfl rfl)
theorem dX0_init_141 : decode cX0_init 141 = .ok (.newarray .int, 2) := dk_188_10 (dk_at dksX0_init_5 22 rfl rfl)
theorem dX0_init_143 : decode cX0_init 143 = .ok (.putfield 57, 3) := dk_181 0 57 (dk_at dksX0_init_6 0 rfl rfl)
theorem dX0_init_146 : decode cX0_init 146 = .ok (.aload_n 0, 1) := dk_42 (dk_at dksX0_init_6 3 rfl rfl)
theorem dX0_init_147 : decode cX0_init 147 = .ok (.sipush 480, 3) := dk_17 1 224 (dk_at dksX0_init_6 4 rfl rfl)
theorem dX0_init_150 : decode cX0_init 150 = .ok (.newarray .byte, 2) := dk_188_8 (dk_at dksX0_init_6 7 rfl rfl)
theorem dX0_init_152 : decode cX0_init 152 = .ok (.putfield 87, 3) := dk_181 0 87 (dk_at dksX0_init_6 9 rfl rfl)
theorem dX0_init_155 : decode cX0_init 155 = .ok (.aload_n 0, 1) := dk_42 (dk_at dksX0_init_6 12 rfl rfl)
theorem dX0_init_156 : decode cX0_init 156 = .ok (.sipush 160, 3) := dk_17 0 160 (dk_at dksX0_init_6 13 rfl rfl)
theorem dX0_init_159 : decode cX0_init 159 = .ok (.newarray .byte, 2) := dk_188_8 (dk_at dksX0_init_6 16 rfl rfl)
theorem dX0_init_161 : decode cX0_init 161 = .ok (.putfield 121, 3) := dk_181 0 121 (dk_at dksX0_init_6 18 rfl rfl)
theorem dX0_init_164 : decode cX0_init 164 = .ok (.aload_n 0, 1) := dk_42 (dk_at dksX0_init_6 21 rfl rfl)
theorem dX0_init_165 : decode cX0_init 165 = .ok (.sipush 480, 3) := dk_17 1 224 (dk_at dksX0_init_7 0 rfl rfl)
theorem dX0_init_168 : decode cX0_init 168 = .ok (.newarray .byte, 2) := dk_188_8 (dk_at dksX0_init_7 3 rfl rfl)
theorem dX0_init_170 : decode cX0_init 170 = .ok (.putfield 124, 3) := dk_181 0 124 (dk_at dksX0_init_7 5 rfl rfl)
theorem dX0_init_173 : decode cX0_init 173 = .ok (.aload_n 0, 1) := dk_42 (dk_at dksX0_init_7 8 rfl rfl)
theorem dX0_init_174 : decode cX0_init 174 = .ok (.iconst 4, 1) := dk_7 (dk_at dksX0_init_7 9 rfl rfl)
theorem dX0_init_175 : decode cX0_init 175 = .ok (.anewarray 127, 3) := dk_189 0 127 (dk_at dksX0_init_7 10 rfl rfl)
theorem dX0_init_178 : decode cX0_init 178 = .ok (.putfield 129, 3) := dk_181 0 129 (dk_at dksX0_init_7 13 rfl rfl)
theorem dX0_init_181 : decode cX0_init 181 = .ok (.iconst 0, 1) := dk_3 (dk_at dksX0_init_7 16 rfl rfl)
theorem dX0_init_182 : decode cX0_init 182 = .ok (.istore_n 1, 1) := dk_60 (dk_at dksX0_init_7 17 rfl rfl)
theorem dX0_init_183 : decode cX0_init 183 = .ok (.iload_n 1, 1) := dk_27 (dk_at dksX0_init_7 18 rfl rfl)
theorem dX0_init_184 : decode cX0_init 184 = .ok (.iconst 4, 1) := dk_7 (dk_at dksX0_init_7 19 rfl rfl)
theorem dX0_init_185 : decode cX0_init 185 = .ok (.if_icmp .ge 22, 3) := dk_162 0 22 (dk_at dksX0_init_7 20 rfl rfl)
theorem dX0_init_188 : decode cX0_init 188 = .ok (.aload_n 0, 1) := dk_42 (dk_at dksX0_init_7 23 rfl rfl)
theorem dX0_init_189 : decode cX0_init 189 = .ok (.getfield 129, 3) := dk_180 0 129 (dk_at dksX0_init_8 0 rfl rfl)
theorem dX0_init_192 : decode cX0_init 192 = .ok (.iload_n 1, 1) := dk_27 (dk_at dksX0_init_8 3 rfl rfl)
theorem dX0_init_193 : decode cX0_init 193 = .ok (.new 127, 3) := dk_187 0 127 (dk_at dksX0_init_8 4 rfl rfl)
theorem dX0_init_196 : decode cX0_init 196 = .ok (.dup, 1) := dk_89 (dk_at dksX0_init_8 7 rfl rfl)
theorem dX0_init_197 : decode cX0_init 197 = .ok (.invokespecial 133, 3) := dk_183 0 133 (dk_at dksX0_init_8 8 rfl rfl)
theorem dX0_init_200 : decode cX0_init 200 = .ok (.aastore, 1) := dk_83 (dk_at dksX0_init_8 11 rfl rfl)
theorem dX0_init_201 : decode cX0_init 201 = .ok (.iinc 1 1, 3) := dk_132 1 1 (dk_at dksX0_init_8 12 rfl rfl)
theorem dX0_init_204 : decode cX0_init 204 = .ok (.goto (-21), 3) := dk_167 255 235 (dk_at dksX0_init_8 15 rfl rfl)
theorem dX0_init_207 : decode cX0_init 207 = .ok (.return_, 1) := dk_177 (dk_at dksX0_init_8 18 rfl rfl)
def dkwX0_feed_2 : List UInt8 := [42, 180, 0, 140, 172]
abbrev dktX0_feed_2 : List UInt8 := dkwX0_feed_2 ++ []
def dkwX0_feed_1 : List UInt8 := [16, 253, 172, 42, 180, 0, 121, 42, 180, 0, 140, 27, 145, 84, 42, 89, 180, 0, 140, 4, 96, 181, 0, 140]
abbrev dktX0_feed_1 : List UInt8 := dkwX0_feed_1 ++ dktX0_feed_2
def dkwX0_feed_0 : List UInt8 := [27, 133, 9, 20, 0, 134, 184, 0, 136, 154, 0, 5, 2, 172, 42, 180, 0, 140, 17, 0, 160, 160, 0, 6]
abbrev dktX0_feed_0 : List UInt8 := dkwX0_feed_0 ++ dktX0_feed_1
theorem dksX0_feed_0 : cX0_feed.data.toList.drop 0 = dktX0_feed_0 := by decide +kernel
theorem dksX0_feed_1 : cX0_feed.data.toList.drop 24 = dktX0_feed_1 := dk_seg dksX0_feed_0 24 rfl rfl
theorem dksX0_feed_2 : cX0_feed.data.toList.drop 48 = dktX0_feed_2 := dk_seg dksX0_feed_1 24 rfl rfl
theorem dX0_feed_0 : decode cX0_feed 0 = .ok (.iload_n 1, 1) := dk_27 (dk_at dksX0_feed_0 0 rfl rfl)
theorem dX0_feed_1 : decode cX0_feed 1 = .ok (.i2l, 1) := dk_133 (dk_at dksX0_feed_0 1 rfl rfl)
theorem dX0_feed_2 : decode cX0_feed 2 = .ok (.lconst 0, 1) := dk_9 (dk_at dksX0_feed_0 2 rfl rfl)
theorem dX0_feed_3 : decode cX0_feed 3 = .ok (.ldc2_w 134, 3) := dk_20 0 134 (dk_at dksX0_feed_0 3 rfl rfl)
theorem dX0_feed_6 : decode cX0_feed 6 = .ok (.invokestatic 136, 3) := dk_184 0 136 (dk_at dksX0_feed_0 6 rfl rfl)
theorem dX0_feed_9 : decode cX0_feed 9 = .ok (.ifCond .ne 5, 3) := dk_154 0 5 (dk_at dksX0_feed_0 9 rfl rfl)
theorem dX0_feed_12 : decode cX0_feed 12 = .ok (.iconst (-1), 1) := dk_2 (dk_at dksX0_feed_0 12 rfl rfl)
theorem dX0_feed_13 : decode cX0_feed 13 = .ok (.ireturn, 1) := dk_172 (dk_at dksX0_feed_0 13 rfl rfl)
theorem dX0_feed_14 : decode cX0_feed 14 = .ok (.aload_n 0, 1) := dk_42 (dk_at dksX0_feed_0 14 rfl rfl)
theorem dX0_feed_15 : decode cX0_feed 15 = .ok (.getfield 140, 3) := dk_180 0 140 (dk_at dksX0_feed_0 15 rfl rfl)
theorem dX0_feed_18 : decode cX0_feed 18 = .ok (.sipush 160, 3) := dk_17 0 160 (dk_at dksX0_feed_0 18 rfl rfl)
theorem dX0_feed_21 : decode cX0_feed 21 = .ok (.if_icmp .ne 6, 3) := dk_160 0 6 (dk_at dksX0_feed_0 21 rfl rfl)
theorem dX0_feed_24 : decode cX0_feed 24 = .ok (.bipush (-3), 2) := dk_16 253 (dk_at dksX0_feed_1 0 rfl rfl)
theorem dX0_feed_26 : decode cX0_feed 26 = .ok (.ireturn, 1) := dk_172 (dk_at dksX0_feed_1 2 rfl rfl)
theorem dX0_feed_27 : decode cX0_feed 27 = .ok (.aload_n 0, 1) := dk_42 (dk_at dksX0_feed_1 3 rfl rfl)
theorem dX0_feed_28 : decode cX0_feed 28 = .ok (.getfield 121, 3) := dk_180 0 121 (dk_at dksX0_feed_1 4 rfl rfl)
theorem dX0_feed_31 : decode cX0_feed 31 = .ok (.aload_n 0, 1) := dk_42 (dk_at dksX0_feed_1 7 rfl rfl)
theorem dX0_feed_32 : decode cX0_feed 32 = .ok (.getfield 140, 3) := dk_180 0 140 (dk_at dksX0_feed_1 8 rfl rfl)
theorem dX0_feed_35 : decode cX0_feed 35 = .ok (.iload_n 1, 1) := dk_27 (dk_at dksX0_feed_1 11 rfl rfl)
theorem dX0_feed_36 : decode cX0_feed 36 = .ok (.i2b, 1) := dk_145 (dk_at dksX0_feed_1 12 rfl rfl)
theorem dX0_feed_37 : decode cX0_feed 37 = .ok (.bastore, 1) := dk_84 (dk_at dksX0_feed_1 13 rfl rfl)
theorem dX0_feed_38 : decode cX0_feed 38 = .ok (.aload_n 0, 1) := dk_42 (dk_at dksX0_feed_1 14 rfl rfl)
theorem dX0_feed_39 : decode cX0_feed 39 = .ok (.dup, 1) := dk_89 (dk_at dksX0_feed_1 15 rfl rfl)
theorem dX0_feed_40 : decode cX0_feed 40 = .ok (.getfield 140, 3) := dk_180 0 140 (dk_at dksX0_feed_1 16 rfl rfl)
theorem dX0_feed_43 : decode cX0_feed 43 = .ok (.iconst 1, 1) := dk_4 (dk_at dksX0_feed_1 19 rfl rfl)
theorem dX0_feed_44 : decode cX0_feed 44 = .ok (.iadd, 1) := dk_96 (dk_at dksX0_feed_1 20 rfl rfl)
theorem dX0_feed_45 : decode cX0_feed 45 = .ok (.putfield 140, 3) := dk_181 0 140 (dk_at dksX0_feed_1 21 rfl rfl)
theorem dX0_feed_48 : decode cX0_feed 48 = .ok (.aload_n 0, 1) := dk_42 (dk_at dksX0_feed_2 0 rfl rfl)
theorem dX0_feed_49 : decode cX0_feed 49 = .ok (.getfield 140, 3) := dk_180 0 140 (dk_at dksX0_feed_2 1 rfl rfl)
theorem dX0_feed_52 : decode cX0_feed 52 = .ok (.ireturn, 1) := dk_172 (dk_at dksX0_feed_2 4 rfl rfl)
def dkwX0_in_0 : List UInt8 := [30, 32, 148, 155, 0, 14, 30, 22, 4, 148, 157, 0, 7, 4, 167, 0, 4, 3, 172]
abbrev dktX0_in_0 : List UInt8 := dkwX0_in_0 ++ []
theorem dksX0_in_0 : cX0_in.data.toList.drop 0 = dktX0_in_0 := by decide +kernel
theorem dX0_in_0 : decode cX0_in 0 = .ok (.lload_n 0, 1) := dk_30 (dk_at dksX0_in_0 0 rfl rfl)
theorem dX0_in_1 : decode cX0_in 1 = .ok (.lload_n 2, 1) := dk_32 (dk_at dksX0_in_0 1 rfl rfl)
theorem dX0_in_2 : decode cX0_in 2 = .ok (.lcmp, 1) := dk_148 (dk_at dksX0_in_0 2 rfl rfl)
theorem dX0_in_3 : decode cX0_in 3 = .ok (.ifCond .lt 14, 3) := dk_155 0 14 (dk_at dksX0_in_0 3 rfl rfl)
theorem dX0_in_6 : decode cX0_in 6 = .ok (.lload_n 0, 1) := dk_30 (dk_at dksX0_in_0 6 rfl rfl)
theorem dX0_in_7 : decode cX0_in 7 = .ok (.lload 4, 2) := dk_22 4 (dk_at dksX0_in_0 7 rfl rfl)
theorem dX0_in_9 : decode cX0_in 9 = .ok (.lcmp, 1) := dk_148 (dk_at dksX0_in_0 9 rfl rfl)
theorem dX0_in_10 : decode cX0_in 10 = .ok (.ifCond .gt 7, 3) := dk_157 0 7 (dk_at dksX0_in_0 10 rfl rfl)
theorem dX0_in_13 : decode cX0_in 13 = .ok (.iconst 1, 1) := dk_4 (dk_at dksX0_in_0 13 rfl rfl)
theorem dX0_in_14 : decode cX0_in 14 = .ok (.goto 4, 3) := dk_167 0 4 (dk_at dksX0_in_0 14 rfl rfl)
theorem dX0_in_17 : decode cX0_in 17 = .ok (.iconst 0, 1) := dk_3 (dk_at dksX0_in_0 17 rfl rfl)
theorem dX0_in_18 : decode cX0_in 18 = .ok (.ireturn, 1) := dk_172 (dk_at dksX0_in_0 18 rfl rfl)
def dkwX0_end_1 : List UInt8 := [181, 0, 140, 28, 172]
abbrev dktX0_end_1 : List UInt8 := dkwX0_end_1 ++ []
def dkwX0_end_0 : List UInt8 := [27, 133, 9, 42, 180, 0, 140, 133, 184, 0, 136, 154, 0, 5, 2, 172, 42, 180, 0, 140, 61, 42, 27]
abbrev dktX0_end_0 : List UInt8 := dkwX0_end_0 ++ dktX0_end_1
theorem dksX0_end_0 : cX0_end.data.toList.drop 0 = dktX0_end_0 := by decide +kernel
theorem dksX0_end_1 : cX0_end.data.toList.drop 23 = dktX0_end_1 := dk_seg dksX0_end_0 23 rfl rfl
theorem dX0_end_0 : decode cX0_end 0 = .ok (.iload_n 1, 1) := dk_27 (dk_at dksX0_end_0 0 rfl rfl)
theorem dX0_end_1 : decode cX0_end 1 = .ok (.i2l, 1) := dk_133 (dk_at dksX0_end_0 1 rfl rfl)
theorem dX0_end_2 : decode cX0_end 2 = .ok (.lconst 0, 1) := dk_9 (dk_at dksX0_end_0 2 rfl rfl)
theorem dX0_end_3 : decode cX0_end 3 = .ok (.aload_n 0, 1) := dk_42 (dk_at dksX0_end_0 3 rfl rfl)
theorem dX0_end_4 : decode cX0_end 4 = .ok (.getfield 140, 3) := dk_180 0 140 (dk_at dksX0_end_0 4 rfl rfl)
theorem dX0_end_7 : decode cX0_end 7 = .ok (.i2l, 1) := dk_133 (dk_at dksX0_end_0 7 rfl rfl)
theorem dX0_end_8 : decode cX0_end 8 = .ok (.invokestatic 136, 3) := dk_184 0 136 (dk_at dksX0_end_0 8 rfl rfl)
theorem dX0_end_11 : decode cX0_end 11 = .ok (.ifCond .ne 5, 3) := dk_154 0 5 (dk_at dksX0_end_0 11 rfl rfl)
theorem dX0_end_14 : decode cX0_end 14 = .ok (.iconst (-1), 1) := dk_2 (dk_at dksX0_end_0 14 rfl rfl)
theorem dX0_end_15 : decode cX0_end 15 = .ok (.ireturn, 1) := dk_172 (dk_at dksX0_end_0 15 rfl rfl)
theorem dX0_end_16 : decode cX0_end 16 = .ok (.aload_n 0, 1) := dk_42 (dk_at dksX0_end_0 16 rfl rfl)
theorem dX0_end_17 : decode cX0_end 17 = .ok (.getfield 140, 3) := dk_180 0 140 (dk_at dksX0_end_0 17 rfl rfl)
theorem dX0_end_20 : decode cX0_end 20 = .ok (.istore_n 2, 1) := dk_61 (dk_at dksX0_end_0 20 rfl rfl)
theorem dX0_end_21 : decode cX0_end 21 = .ok (.aload_n 0, 1) := dk_42 (dk_at dksX0_end_0 21 rfl rfl)
theorem dX0_end_22 : decode cX0_end 22 = .ok (.iload_n 1, 1) := dk_27 (dk_at dksX0_end_0 22 rfl rfl)
theorem dX0_end_23 : decode cX0_end 23 = .ok (.putfield 140, 3) := dk_181 0 140 (dk_at dksX0_end_1 0 rfl rfl)
theorem dX0_end_26 : decode cX0_end 26 = .ok (.iload_n 2, 1) := dk_28 (dk_at dksX0_end_1 3 rfl rfl)
theorem dX0_end_27 : decode cX0_end 27 = .ok (.ireturn, 1) := dk_172 (dk_at dksX0_end_1 4 rfl rfl)
def dkwX0_text_3 : List UInt8 := [3, 181, 0, 177, 29, 172, 77, 42, 44, 180, 0, 182, 181, 0, 143, 16, 246, 44, 180, 0, 185, 100, 172]
abbrev dktX0_text_3 : List UInt8 := dkwX0_text_3 ++ []
def dkwX0_text_2 : List UInt8 := [181, 0, 1, 44, 180, 0, 165, 3, 42, 180, 0, 7, 3, 16, 8, 184, 0, 168, 42, 3, 181, 0, 174, 42]
abbrev dktX0_text_2 : List UInt8 := dkwX0_text_2 ++ dktX0_text_3
def dkwX0_text_1 : List UInt8 := [77, 44, 182, 0, 151, 62, 42, 180, 0, 107, 44, 180, 0, 155, 182, 0, 158, 42, 44, 180, 0, 162]
abbrev dktX0_text_1 : List UInt8 := dkwX0_text_1 ++ dktX0_text_2
def dkwX0_text_0 : List UInt8 := [42, 180, 0, 140, 60, 42, 3, 181, 0, 140, 42, 3, 181, 0, 143, 187, 0, 146, 89, 42, 27, 183, 0, 148]
abbrev dktX0_text_0 : List UInt8 := dkwX0_text_0 ++ dktX0_text_1
theorem dksX0_text_0 : cX0_text.data.toList.drop 0 = dktX0_text_0 := by decide +kernel
theorem dksX0_text_1 : cX0_text.data.toList.drop 24 = dktX0_text_1 := dk_seg dksX0_text_0 24 rfl rfl
theorem dksX0_text_2 : cX0_text.data.toList.drop 46 = dktX0_text_2 := dk_seg dksX0_text_1 22 rfl rfl
theorem dksX0_text_3 : cX0_text.data.toList.drop 70 = dktX0_text_3 := dk_seg dksX0_text_2 24 rfl rfl
theorem dX0_text_0 : decode cX0_text 0 = .ok (.aload_n 0, 1) := dk_42 (dk_at dksX0_text_0 0 rfl rfl)
theorem dX0_text_1 : decode cX0_text 1 = .ok (.getfield 140, 3) := dk_180 0 140 (dk_at dksX0_text_0 1 rfl rfl)
theorem dX0_text_4 : decode cX0_text 4 = .ok (.istore_n 1, 1) := dk_60 (dk_at dksX0_text_0 4 rfl rfl)
theorem dX0_text_5 : decode cX0_text 5 = .ok (.aload_n 0, 1) := dk_42 (dk_at dksX0_text_0 5 rfl rfl)
theorem dX0_text_6 : decode cX0_text 6 = .ok (.iconst 0, 1) := dk_3 (dk_at dksX0_text_0 6 rfl rfl)
theorem dX0_text_7 : decode cX0_text 7 = .ok (.putfield 140, 3) := dk_181 0 140 (dk_at dksX0_text_0 7 rfl rfl)
theorem dX0_text_10 : decode cX0_text 10 = .ok (.aload_n 0, 1) := dk_42 (dk_at dksX0_text_0 10 rfl rfl)
theorem dX0_text_11 : decode cX0_text 11 = .ok (.iconst 0, 1) := dk_3 (dk_at dksX0_text_0 11 rfl rfl)
theorem dX0_text_12 : decode cX0_text 12 = .ok (.putfield 143, 3) := dk_181 0 143 (dk_at dksX0_text_0 12 rfl rfl)
theorem dX0_text_15 : decode cX0_text 15 = .ok (.new 146, 3) := dk_187 0 146 (dk_at dksX0_text_0 15 rfl rfl)
theorem dX0_text_18 : decode cX0_text 18 = .ok (.dup, 1) := dk_89 (dk_at dksX0_text_0 18 rfl rfl)
theorem dX0_text_19 : decode cX0_text 19 = .ok (.aload_n 0, 1) := dk_42 (dk_at dksX0_text_0 19 rfl rfl)
theorem dX0_text_20 : decode cX0_text 20 = .ok (.iload_n 1, 1) := dk_27 (dk_at dksX0_text_0 20 rfl rfl)
theorem dX0_text_21 : decode cX0_text 21 = .ok (.invokespecial 148, 3) := dk_183 0 148 (dk_at dksX0_text_0 21 rfl rfl)
theorem dX0_text_24 : decode cX0_text 24 = .ok (.astore_n 2, 1) := dk_77 (dk_at dksX0_text_1 0 rfl rfl)
theorem dX0_text_25 : decode cX0_text 25 = .ok (.aload_n 2, 1) := dk_44 (dk_at dksX0_text_1 1 rfl rfl)
theorem dX0_text_26 : decode cX0_text 26 = .ok (.invokevirtual 151, 3) := dk_182 0 151 (dk_at dksX0_text_1 2 rfl rfl)
theorem dX0_text_29 : decode cX0_text 29 = .ok (.istore_n 3, 1) := dk_62 (dk_at dksX0_text_1 5 rfl rfl)
theorem dX0_text_30 : decode cX0_text 30 = .ok (.aload_n 0, 1) := dk_42 (dk_at dksX0_text_1 6 rfl rfl)
theorem dX0_text_31 : decode cX0_text 31 = .ok (.getfield 107, 3) := dk_180 0 107 (dk_at dksX0_text_1 7 rfl rfl)
theorem dX0_text_34 : decode cX0_text 34 = .ok (.aload_n 2, 1) := dk_44 (dk_at dksX0_text_1 10 rfl rfl)
theorem dX0_text_35 : decode cX0_text 35 = .ok (.getfield 155, 3) := dk_180 0 155 (dk_at dksX0_text_1 11 rfl rfl)
theorem dX0_text_38 : decode cX0_text 38 = .ok (.invokevirtual 158, 3) := dk_182 0 158 (dk_at dksX0_text_1 14 rfl rfl)
theorem dX0_text_41 : decode cX0_text 41 = .ok (.aload_n 0, 1) := dk_42 (dk_at dksX0_text_1 17 rfl rfl)
theorem dX0_text_42 : decode cX0_text 42 = .ok (.aload_n 2, 1) := dk_44 (dk_at dksX0_text_1 18 rfl rfl)
theorem dX0_text_43 : decode cX0_text 43 = .ok (.getfield 162, 3) := dk_180 0 162 (dk_at dksX0_text_1 19 rfl rfl)
theorem dX0_text_46 : decode cX0_text 46 = .ok (.putfield 1, 3) := dk_181 0 1 (dk_at dksX0_text_2 0 rfl rfl)
theorem dX0_text_49 : decode cX0_text 49 = .ok (.aload_n 2, 1) := dk_44 (dk_at dksX0_text_2 3 rfl rfl)
theorem dX0_text_50 : decode cX0_text 50 = .ok (.getfield 165, 3) := dk_180 0 165 (dk_at dksX0_text_2 4 rfl rfl)
theorem dX0_text_53 : decode cX0_text 53 = .ok (.iconst 0, 1) := dk_3 (dk_at dksX0_text_2 7 rfl rfl)
theorem dX0_text_54 : decode cX0_text 54 = .ok (.aload_n 0, 1) := dk_42 (dk_at dksX0_text_2 8 rfl rfl)
theorem dX0_text_55 : decode cX0_text 55 = .ok (.getfield 7, 3) := dk_180 0 7 (dk_at dksX0_text_2 9 rfl rfl)
theorem dX0_text_58 : decode cX0_text 58 = .ok (.iconst 0, 1) := dk_3 (dk_at dksX0_text_2 12 rfl rfl)
theorem dX0_text_59 : decode cX0_text 59 = .ok (.bipush 8, 2) := dk_16 8 (dk_at dksX0_text_2 13 rfl rfl)
theorem dX0_text_61 : decode cX0_text 61 = .ok (.invokestatic 168, 3) := dk_184 0 168 (dk_at dksX0_text_2 15 rfl rfl)
theorem dX0_text_64 : decode cX0_text 64 = .ok (.aload_n 0, 1) := dk_42 (dk_at dksX0_text_2 18 rfl rfl)
theorem dX0_text_65 : decode cX0_text 65 = .ok (.iconst 0, 1) := dk_3 (dk_at dksX0_text_2 19 rfl rfl)
theorem dX0_text_66 : decode cX0_text 66 = .ok (.putfield 174, 3) := dk_181 0 174 (dk_at dksX0_text_2 20 rfl rfl)
theorem dX0_text_69 : decode cX0_text 69 = .ok (.aload_n 0, 1) := dk_42 (dk_at dksX0_text_2 23 rfl rfl)
theorem dX0_text_70 : decode cX0_text 70 = .ok (.iconst 0, 1) := dk_3 (dk_at dksX0_text_3 0 rfl rfl)
theorem dX0_text_71 : decode cX0_text 71 = .ok (.putfield 177, 3) := dk_181 0 177 (dk_at dksX0_text_3 1 rfl rfl)
theorem dX0_text_74 : decode cX0_text 74 = .ok (.iload_n 3, 1) := dk_29 (dk_at dksX0_text_3 4 rfl rfl)
theorem dX0_text_75 : decode cX0_text 75 = .ok (.ireturn, 1) := dk_172 (dk_at dksX0_text_3 5 rfl rfl)
theorem dX0_text_76 : decode cX0_text 76 = .ok (.astore_n 2, 1) := dk_77 (dk_at dksX0_text_3 6 rfl rfl)
theorem dX0_text_77 : decode cX0_text 77 = .ok (.aload_n 0, 1) := dk_42 (dk_at dksX0_text_3 7 rfl rfl)
theorem dX0_text_78 : decode cX0_text 78 = .ok (.aload_n 2, 1) := dk_44 (dk_at dksX0_text_3 8 rfl rfl)
theorem dX0_text_79 : decode cX0_text 79 = .ok (.getfield 182, 3) := dk_180 0 182 (dk_at dksX0_text_3 9 rfl rfl)
theorem dX0_text_82 : decode cX0_text 82 = .ok (.putfield 143, 3) := dk_181 0 143 (dk_at dksX0_text_3 12 rfl rfl)
theorem dX0_text_85 : decode cX0_text 85 = .ok (.bipush (-10), 2) := dk_16 246 (dk_at dksX0_text_3 15 rfl rfl)
theorem dX0_text_87 : decode cX0_text 87 = .ok (.aload_n 2, 1) := dk_44 (dk_at dksX0_text_3 17 rfl rfl)
theorem dX0_text_88 : decode cX0_text 88 = .ok (.getfield 185, 3) := dk_180 0 185 (dk_at dksX0_text_3 18 rfl rfl)
theorem dX0_text_91 : decode cX0_text 91 = .ok (.isub, 1) := dk_100 (dk_at dksX0_text_3 21 rfl rfl)
theorem dX0_text_92 : decode cX0_text 92 = .ok (.ireturn, 1) := dk_172 (dk_at dksX0_text_3 22 rfl rfl)
def dkwX0_has_0 : List UInt8 := [26, 27, 122, 4, 126, 4, 160, 0, 7, 4, 167, 0, 4, 3, 172]
abbrev dktX0_has_0 : List UInt8 := dkwX0_has_0 ++ []
theorem dksX0_has_0 : cX0_has.data.toList.drop 0 = dktX0_has_0 := by decide +kernel
theorem dX0_has_0 : decode cX0_has 0 = .ok (.iload_n 0, 1) := dk_26 (dk_at dksX0_has_0 0 rfl rfl)
theorem dX0_has_1 : decode cX0_has 1 = .ok (.iload_n 1, 1) := dk_27 (dk_at dksX0_has_0 1 rfl rfl)
theorem dX0_has_2 : decode cX0_has 2 = .ok (.ishr, 1) := dk_122 (dk_at dksX0_has_0 2 rfl rfl)
theorem dX0_has_3 : decode cX0_has 3 = .ok (.iconst 1, 1) := dk_4 (dk_at dksX0_has_0 3 rfl rfl)
theorem dX0_has_4 : decode cX0_has 4 = .ok (.iand, 1) := dk_126 (dk_at dksX0_has_0 4 rfl rfl)
theorem dX0_has_5 : decode cX0_has 5 = .ok (.iconst 1, 1) := dk_4 (dk_at dksX0_has_0 5 rfl rfl)
theorem dX0_has_6 : decode cX0_has 6 = .ok (.if_icmp .ne 7, 3) := dk_160 0 7 (dk_at dksX0_has_0 6 rfl rfl)
theorem dX0_has_9 : decode cX0_has 9 = .ok (.iconst 1, 1) := dk_4 (dk_at dksX0_has_0 9 rfl rfl)
theorem dX0_has_10 : decode cX0_has 10 = .ok (.goto 4, 3) := dk_167 0 4 (dk_at dksX0_has_0 10 rfl rfl)
theorem dX0_has_13 : decode cX0_has 13 = .ok (.iconst 0, 1) := dk_3 (dk_at dksX0_has_0 13 rfl rfl)
theorem dX0_has_14 : decode cX0_has 14 = .ok (.ireturn, 1) := dk_172 (dk_at dksX0_has_0 14 rfl rfl)
theorem dX0_fault_0 : decode cX0_fault 0 = .ok (.aload_n 0, 1) := by decide +kernel
theorem dX0_fault_1 : decode cX0_fault 1 = .ok (.getfield 143, 3) := by decide +kernel
theorem dX0_fault_4 : decode cX0_fault 4 = .ok (.ireturn, 1) := by decide +kernel
def dkwX0_rule_3 : List UInt8 := [180, 0, 107, 180, 0, 35, 172, 42, 180, 0, 107, 182, 0, 193, 172, 2, 172]
abbrev dktX0_rule_3 : List UInt8 := dkwX0_rule_3 ++ []
def dkwX0_rule_2 : List UInt8 := [42, 180, 0, 107, 180, 0, 188, 172, 42, 180, 0, 107, 180, 0, 15, 172, 42, 180, 0, 1, 172, 42]
abbrev dktX0_rule_2 : List UInt8 := dkwX0_rule_2 ++ dktX0_rule_3
def dkwX0_rule_1 : List UInt8 := [170, 0, 0, 0, 0, 0, 72, 0, 0, 0, 0, 0, 0, 0, 4, 0, 0, 0, 35, 0, 0, 0, 43, 0, 0, 0, 51, 0, 0, 0, 56, 0, 0, 0, 64]
abbrev dktX0_rule_1 : List UInt8 := dkwX0_rule_1 ++ dktX0_rule_2
def dkwX0_rule_0 : List UInt8 := [27]
abbrev dktX0_rule_0 : List UInt8 := dkwX0_rule_0 ++ dktX0_rule_1
theorem dksX0_rule_0 : cX0_rule.data.toList.drop 0 = dktX0_rule_0 := by decide +kernel
theorem dksX0_rule_1 : cX0_rule.data.toList.drop 1 = dktX0_rule_1 := dk_seg dksX0_rule_0 1 rfl rfl
theorem dksX0_rule_2 : cX0_rule.data.toList.drop 36 = dktX0_rule_2 := dk_seg dksX0_rule_1 35 rfl rfl
theorem dksX0_rule_3 : cX0_rule.data.toList.drop 58 = dktX0_rule_3 := dk_seg dksX0_rule_2 22 rfl rfl
theorem dX0_rule_0 : decode cX0_rule 0 = .ok (.iload_n 1, 1) := dk_27 (dk_at dksX0_rule_0 0 rfl rfl)
theorem dX0_rule_1 : decode cX0_rule 1 = .ok (.tableswitch 72 0 4 #[35, 43, 51, 56, 64], 35) := by decide +kernel
theorem dX0_rule_36 : decode cX0_rule 36 = .ok (.aload_n 0, 1) := dk_42 (dk_at dksX0_rule_2 0 rfl rfl)
theorem dX0_rule_37 : decode cX0_rule 37 = .ok (.getfield 107, 3) := dk_180 0 107 (dk_at dksX0_rule_2 1 rfl rfl)
theorem dX0_rule_40 : decode cX0_rule 40 = .ok (.getfield 188, 3) := dk_180 0 188 (dk_at dksX0_rule_2 4 rfl rfl)
theorem dX0_rule_43 : decode cX0_rule 43 = .ok (.ireturn, 1) := dk_172 (dk_at dksX0_rule_2 7 rfl rfl)
theorem dX0_rule_44 : decode cX0_rule 44 = .ok (.aload_n 0, 1) := dk_42 (dk_at dksX0_rule_2 8 rfl rfl)
theorem dX0_rule_45 : decode cX0_rule 45 = .ok (.getfield 107, 3) := dk_180 0 107 (dk_at dksX0_rule_2 9 rfl rfl)
theorem dX0_rule_48 : decode cX0_rule 48 = .ok (.getfield 15, 3) := dk_180 0 15 (dk_at dksX0_rule_2 12 rfl rfl)
theorem dX0_rule_51 : decode cX0_rule 51 = .ok (.ireturn, 1) := dk_172 (dk_at dksX0_rule_2 15 rfl rfl)
theorem dX0_rule_52 : decode cX0_rule 52 = .ok (.aload_n 0, 1) := dk_42 (dk_at dksX0_rule_2 16 rfl rfl)
theorem dX0_rule_53 : decode cX0_rule 53 = .ok (.getfield 1, 3) := dk_180 0 1 (dk_at dksX0_rule_2 17 rfl rfl)
theorem dX0_rule_56 : decode cX0_rule 56 = .ok (.ireturn, 1) := dk_172 (dk_at dksX0_rule_2 20 rfl rfl)
theorem dX0_rule_57 : decode cX0_rule 57 = .ok (.aload_n 0, 1) := dk_42 (dk_at dksX0_rule_2 21 rfl rfl)
theorem dX0_rule_58 : decode cX0_rule 58 = .ok (.getfield 107, 3) := dk_180 0 107 (dk_at dksX0_rule_3 0 rfl rfl)
theorem dX0_rule_61 : decode cX0_rule 61 = .ok (.getfield 35, 3) := dk_180 0 35 (dk_at dksX0_rule_3 3 rfl rfl)
theorem dX0_rule_64 : decode cX0_rule 64 = .ok (.ireturn, 1) := dk_172 (dk_at dksX0_rule_3 6 rfl rfl)
theorem dX0_rule_65 : decode cX0_rule 65 = .ok (.aload_n 0, 1) := dk_42 (dk_at dksX0_rule_3 7 rfl rfl)
theorem dX0_rule_66 : decode cX0_rule 66 = .ok (.getfield 107, 3) := dk_180 0 107 (dk_at dksX0_rule_3 8 rfl rfl)
theorem dX0_rule_69 : decode cX0_rule 69 = .ok (.invokevirtual 193, 3) := dk_182 0 193 (dk_at dksX0_rule_3 11 rfl rfl)
theorem dX0_rule_72 : decode cX0_rule 72 = .ok (.ireturn, 1) := dk_172 (dk_at dksX0_rule_3 14 rfl rfl)
theorem dX0_rule_73 : decode cX0_rule 73 = .ok (.iconst (-1), 1) := dk_2 (dk_at dksX0_rule_3 15 rfl rfl)
theorem dX0_rule_74 : decode cX0_rule 74 = .ok (.ireturn, 1) := dk_172 (dk_at dksX0_rule_3 16 rfl rfl)
def dkwX0_block_6 : List UInt8 := [29, 172]
abbrev dktX0_block_6 : List UInt8 := dkwX0_block_6 ++ []
def dkwX0_block_5 : List UInt8 := [27, 51, 167, 0, 23, 28, 4, 160, 0, 17, 42, 180, 0, 107, 180, 0, 35, 27, 122, 4, 126, 167, 0, 4]
abbrev dktX0_block_5 : List UInt8 := dkwX0_block_5 ++ dktX0_block_6
def dkwX0_block_4 : List UInt8 := [120, 167, 0, 4, 3, 128, 62, 132, 4, 1, 167, 255, 178, 28, 154, 0, 15, 42, 180, 0, 107, 180, 0, 67]
abbrev dktX0_block_4 : List UInt8 := dkwX0_block_4 ++ dktX0_block_5
def dkwX0_block_3 : List UInt8 := [180, 0, 7, 5, 21, 4, 104, 4, 96, 51, 27, 160, 0, 17, 4, 42, 180, 0, 7, 5, 21, 4, 104, 51]
abbrev dktX0_block_3 : List UInt8 := dkwX0_block_3 ++ dktX0_block_4
def dkwX0_block_2 : List UInt8 := [160, 0, 19, 4, 42, 180, 0, 7, 5, 21, 4, 104, 4, 96, 51, 120, 167, 0, 4, 3, 128, 62, 29, 42]
abbrev dktX0_block_2 : List UInt8 := dkwX0_block_2 ++ dktX0_block_3
def dkwX0_block_1 : List UInt8 := [3, 54, 4, 21, 4, 42, 180, 0, 1, 162, 0, 75, 29, 42, 180, 0, 7, 5, 21, 4, 104, 51, 27]
abbrev dktX0_block_1 : List UInt8 := dkwX0_block_1 ++ dktX0_block_2
def dkwX0_block_0 : List UInt8 := [42, 27, 182, 0, 196, 153, 0, 15, 28, 133, 9, 20, 0, 200, 184, 0, 136, 154, 0, 5, 2, 172, 3, 62]
abbrev dktX0_block_0 : List UInt8 := dkwX0_block_0 ++ dktX0_block_1
theorem dksX0_block_0 : cX0_block.data.toList.drop 0 = dktX0_block_0 := by decide +kernel
theorem dksX0_block_1 : cX0_block.data.toList.drop 24 = dktX0_block_1 := dk_seg dksX0_block_0 24 rfl rfl
theorem dksX0_block_2 : cX0_block.data.toList.drop 47 = dktX0_block_2 := dk_seg dksX0_block_1 23 rfl rfl
theorem dksX0_block_3 : cX0_block.data.toList.drop 71 = dktX0_block_3 := dk_seg dksX0_block_2 24 rfl rfl
theorem dksX0_block_4 : cX0_block.data.toList.drop 95 = dktX0_block_4 := dk_seg dksX0_block_3 24 rfl rfl
theorem dksX0_block_5 : cX0_block.data.toList.drop 119 = dktX0_block_5 := dk_seg dksX0_block_4 24 rfl rfl
theorem dksX0_block_6 : cX0_block.data.toList.drop 143 = dktX0_block_6 := dk_seg dksX0_block_5 24 rfl rfl
theorem dX0_block_0 : decode cX0_block 0 = .ok (.aload_n 0, 1) := dk_42 (dk_at dksX0_block_0 0 rfl rfl)
theorem dX0_block_1 : decode cX0_block 1 = .ok (.iload_n 1, 1) := dk_27 (dk_at dksX0_block_0 1 rfl rfl)
theorem dX0_block_2 : decode cX0_block 2 = .ok (.invokevirtual 196, 3) := dk_182 0 196 (dk_at dksX0_block_0 2 rfl rfl)
theorem dX0_block_5 : decode cX0_block 5 = .ok (.ifCond .eq 15, 3) := dk_153 0 15 (dk_at dksX0_block_0 5 rfl rfl)
theorem dX0_block_8 : decode cX0_block 8 = .ok (.iload_n 2, 1) := dk_28 (dk_at dksX0_block_0 8 rfl rfl)
theorem dX0_block_9 : decode cX0_block 9 = .ok (.i2l, 1) := dk_133 (dk_at dksX0_block_0 9 rfl rfl)
theorem dX0_block_10 : decode cX0_block 10 = .ok (.lconst 0, 1) := dk_9 (dk_at dksX0_block_0 10 rfl rfl)
theorem dX0_block_11 : decode cX0_block 11 = .ok (.ldc2_w 200, 3) := dk_20 0 200 (dk_at dksX0_block_0 11 rfl rfl)
theorem dX0_block_14 : decode cX0_block 14 = .ok (.invokestatic 136, 3) := dk_184 0 136 (dk_at dksX0_block_0 14 rfl rfl)
theorem dX0_block_17 : decode cX0_block 17 = .ok (.ifCond .ne 5, 3) := dk_154 0 5 (dk_at dksX0_block_0 17 rfl rfl)
theorem dX0_block_20 : decode cX0_block 20 = .ok (.iconst (-1), 1) := dk_2 (dk_at dksX0_block_0 20 rfl rfl)
theorem dX0_block_21 : decode cX0_block 21 = .ok (.ireturn, 1) := dk_172 (dk_at dksX0_block_0 21 rfl rfl)
theorem dX0_block_22 : decode cX0_block 22 = .ok (.iconst 0, 1) := dk_3 (dk_at dksX0_block_0 22 rfl rfl)
theorem dX0_block_23 : decode cX0_block 23 = .ok (.istore_n 3, 1) := dk_62 (dk_at dksX0_block_0 23 rfl rfl)
theorem dX0_block_24 : decode cX0_block 24 = .ok (.iconst 0, 1) := dk_3 (dk_at dksX0_block_1 0 rfl rfl)
theorem dX0_block_25 : decode cX0_block 25 = .ok (.istore 4, 2) := dk_54 4 (dk_at dksX0_block_1 1 rfl rfl)
theorem dX0_block_27 : decode cX0_block 27 = .ok (.iload 4, 2) := dk_21 4 (dk_at dksX0_block_1 3 rfl rfl)
theorem dX0_block_29 : decode cX0_block 29 = .ok (.aload_n 0, 1) := dk_42 (dk_at dksX0_block_1 5 rfl rfl)
theorem dX0_block_30 : decode cX0_block 30 = .ok (.getfield 1, 3) := dk_180 0 1 (dk_at dksX0_block_1 6 rfl rfl)
theorem dX0_block_33 : decode cX0_block 33 = .ok (.if_icmp .ge 75, 3) := dk_162 0 75 (dk_at dksX0_block_1 9 rfl rfl)
theorem dX0_block_36 : decode cX0_block 36 = .ok (.iload_n 3, 1) := dk_29 (dk_at dksX0_block_1 12 rfl rfl)
theorem dX0_block_37 : decode cX0_block 37 = .ok (.aload_n 0, 1) := dk_42 (dk_at dksX0_block_1 13 rfl rfl)
theorem dX0_block_38 : decode cX0_block 38 = .ok (.getfield 7, 3) := dk_180 0 7 (dk_at dksX0_block_1 14 rfl rfl)
theorem dX0_block_41 : decode cX0_block 41 = .ok (.iconst 2, 1) := dk_5 (dk_at dksX0_block_1 17 rfl rfl)
theorem dX0_block_42 : decode cX0_block 42 = .ok (.iload 4, 2) := dk_21 4 (dk_at dksX0_block_1 18 rfl rfl)
theorem dX0_block_44 : decode cX0_block 44 = .ok (.imul, 1) := dk_104 (dk_at dksX0_block_1 20 rfl rfl)
theorem dX0_block_45 : decode cX0_block 45 = .ok (.baload, 1) := dk_51 (dk_at dksX0_block_1 21 rfl rfl)
theorem dX0_block_46 : decode cX0_block 46 = .ok (.iload_n 1, 1) := dk_27 (dk_at dksX0_block_1 22 rfl rfl)
theorem dX0_block_47 : decode cX0_block 47 = .ok (.if_icmp .ne 19, 3) := dk_160 0 19 (dk_at dksX0_block_2 0 rfl rfl)
theorem dX0_block_50 : decode cX0_block 50 = .ok (.iconst 1, 1) := dk_4 (dk_at dksX0_block_2 3 rfl rfl)
theorem dX0_block_51 : decode cX0_block 51 = .ok (.aload_n 0, 1) := dk_42 (dk_at dksX0_block_2 4 rfl rfl)
theorem dX0_block_52 : decode cX0_block 52 = .ok (.getfield 7, 3) := dk_180 0 7 (dk_at dksX0_block_2 5 rfl rfl)
theorem dX0_block_55 : decode cX0_block 55 = .ok (.iconst 2, 1) := dk_5 (dk_at dksX0_block_2 8 rfl rfl)
theorem dX0_block_56 : decode cX0_block 56 = .ok (.iload 4, 2) := dk_21 4 (dk_at dksX0_block_2 9 rfl rfl)
theorem dX0_block_58 : decode cX0_block 58 = .ok (.imul, 1) := dk_104 (dk_at dksX0_block_2 11 rfl rfl)
theorem dX0_block_59 : decode cX0_block 59 = .ok (.iconst 1, 1) := dk_4 (dk_at dksX0_block_2 12 rfl rfl)
theorem dX0_block_60 : decode cX0_block 60 = .ok (.iadd, 1) := dk_96 (dk_at dksX0_block_2 13 rfl rfl)
theorem dX0_block_61 : decode cX0_block 61 = .ok (.baload, 1) := dk_51 (dk_at dksX0_block_2 14 rfl rfl)
theorem dX0_block_62 : decode cX0_block 62 = .ok (.ishl, 1) := dk_120 (dk_at dksX0_block_2 15 rfl rfl)
theorem dX0_block_63 : decode cX0_block 63 = .ok (.goto 4, 3) := dk_167 0 4 (dk_at dksX0_block_2 16 rfl rfl)
theorem dX0_block_66 : decode cX0_block 66 = .ok (.iconst 0, 1) := dk_3 (dk_at dksX0_block_2 19 rfl rfl)
theorem dX0_block_67 : decode cX0_block 67 = .ok (.ior, 1) := dk_128 (dk_at dksX0_block_2 20 rfl rfl)
theorem dX0_block_68 : decode cX0_block 68 = .ok (.istore_n 3, 1) := dk_62 (dk_at dksX0_block_2 21 rfl rfl)
theorem dX0_block_69 : decode cX0_block 69 = .ok (.iload_n 3, 1) := dk_29 (dk_at dksX0_block_2 22 rfl rfl)
theorem dX0_block_70 : decode cX0_block 70 = .ok (.aload_n 0, 1) := dk_42 (dk_at dksX0_block_2 23 rfl rfl)
theorem dX0_block_71 : decode cX0_block 71 = .ok (.getfield 7, 3) := dk_180 0 7 (dk_at dksX0_block_3 0 rfl rfl)
theorem dX0_block_74 : decode cX0_block 74 = .ok (.iconst 2, 1) := dk_5 (dk_at dksX0_block_3 3 rfl rfl)
theorem dX0_block_75 : decode cX0_block 75 = .ok (.iload 4, 2) := dk_21 4 (dk_at dksX0_block_3 4 rfl rfl)
theorem dX0_block_77 : decode cX0_block 77 = .ok (.imul, 1) := dk_104 (dk_at dksX0_block_3 6 rfl rfl)
theorem dX0_block_78 : decode cX0_block 78 = .ok (.iconst 1, 1) := dk_4 (dk_at dksX0_block_3 7 rfl rfl)
theorem dX0_block_79 : decode cX0_block 79 = .ok (.iadd, 1) := dk_96 (dk_at dksX0_block_3 8 rfl rfl)
theorem dX0_block_80 : decode cX0_block 80 = .ok (.baload, 1) := dk_51 (dk_at dksX0_block_3 9 rfl rfl)
theorem dX0_block_81 : decode cX0_block 81 = .ok (.iload_n 1, 1) := dk_27 (dk_at dksX0_block_3 10 rfl rfl)
theorem dX0_block_82 : decode cX0_block 82 = .ok (.if_icmp .ne 17, 3) := dk_160 0 17 (dk_at dksX0_block_3 11 rfl rfl)
theorem dX0_block_85 : decode cX0_block 85 = .ok (.iconst 1, 1) := dk_4 (dk_at dksX0_block_3 14 rfl rfl)
theorem dX0_block_86 : decode cX0_block 86 = .ok (.aload_n 0, 1) := dk_42 (dk_at dksX0_block_3 15 rfl rfl)
theorem dX0_block_87 : decode cX0_block 87 = .ok (.getfield 7, 3) := dk_180 0 7 (dk_at dksX0_block_3 16 rfl rfl)
theorem dX0_block_90 : decode cX0_block 90 = .ok (.iconst 2, 1) := dk_5 (dk_at dksX0_block_3 19 rfl rfl)
theorem dX0_block_91 : decode cX0_block 91 = .ok (.iload 4, 2) := dk_21 4 (dk_at dksX0_block_3 20 rfl rfl)
theorem dX0_block_93 : decode cX0_block 93 = .ok (.imul, 1) := dk_104 (dk_at dksX0_block_3 22 rfl rfl)
theorem dX0_block_94 : decode cX0_block 94 = .ok (.baload, 1) := dk_51 (dk_at dksX0_block_3 23 rfl rfl)
theorem dX0_block_95 : decode cX0_block 95 = .ok (.ishl, 1) := dk_120 (dk_at dksX0_block_4 0 rfl rfl)
theorem dX0_block_96 : decode cX0_block 96 = .ok (.goto 4, 3) := dk_167 0 4 (dk_at dksX0_block_4 1 rfl rfl)
theorem dX0_block_99 : decode cX0_block 99 = .ok (.iconst 0, 1) := dk_3 (dk_at dksX0_block_4 4 rfl rfl)
theorem dX0_block_100 : decode cX0_block 100 = .ok (.ior, 1) := dk_128 (dk_at dksX0_block_4 5 rfl rfl)
theorem dX0_block_101 : decode cX0_block 101 = .ok (.istore_n 3, 1) := dk_62 (dk_at dksX0_block_4 6 rfl rfl)
theorem dX0_block_102 : decode cX0_block 102 = .ok (.iinc 4 1, 3) := dk_132 4 1 (dk_at dksX0_block_4 7 rfl rfl)
theorem dX0_block_105 : decode cX0_block 105 = .ok (.goto (-78), 3) := dk_167 255 178 (dk_at dksX0_block_4 10 rfl rfl)
theorem dX0_block_108 : decode cX0_block 108 = .ok (.iload_n 2, 1) := dk_28 (dk_at dksX0_block_4 13 rfl rfl)
theorem dX0_block_109 : decode cX0_block 109 = .ok (.ifCond .ne 15, 3) := dk_154 0 15 (dk_at dksX0_block_4 14 rfl rfl)
theorem dX0_block_112 : decode cX0_block 112 = .ok (.aload_n 0, 1) := dk_42 (dk_at dksX0_block_4 17 rfl rfl)
theorem dX0_block_113 : decode cX0_block 113 = .ok (.getfield 107, 3) := dk_180 0 107 (dk_at dksX0_block_4 18 rfl rfl)
theorem dX0_block_116 : decode cX0_block 116 = .ok (.getfield 67, 3) := dk_180 0 67 (dk_at dksX0_block_4 21 rfl rfl)
theorem dX0_block_119 : decode cX0_block 119 = .ok (.iload_n 1, 1) := dk_27 (dk_at dksX0_block_5 0 rfl rfl)
theorem dX0_block_120 : decode cX0_block 120 = .ok (.baload, 1) := dk_51 (dk_at dksX0_block_5 1 rfl rfl)
theorem dX0_block_121 : decode cX0_block 121 = .ok (.goto 23, 3) := dk_167 0 23 (dk_at dksX0_block_5 2 rfl rfl)
theorem dX0_block_124 : decode cX0_block 124 = .ok (.iload_n 2, 1) := dk_28 (dk_at dksX0_block_5 5 rfl rfl)
theorem dX0_block_125 : decode cX0_block 125 = .ok (.iconst 1, 1) := dk_4 (dk_at dksX0_block_5 6 rfl rfl)
theorem dX0_block_126 : decode cX0_block 126 = .ok (.if_icmp .ne 17, 3) := dk_160 0 17 (dk_at dksX0_block_5 7 rfl rfl)
theorem dX0_block_129 : decode cX0_block 129 = .ok (.aload_n 0, 1) := dk_42 (dk_at dksX0_block_5 10 rfl rfl)
theorem dX0_block_130 : decode cX0_block 130 = .ok (.getfield 107, 3) := dk_180 0 107 (dk_at dksX0_block_5 11 rfl rfl)
theorem dX0_block_133 : decode cX0_block 133 = .ok (.getfield 35, 3) := dk_180 0 35 (dk_at dksX0_block_5 14 rfl rfl)
theorem dX0_block_136 : decode cX0_block 136 = .ok (.iload_n 1, 1) := dk_27 (dk_at dksX0_block_5 17 rfl rfl)
theorem dX0_block_137 : decode cX0_block 137 = .ok (.ishr, 1) := dk_122 (dk_at dksX0_block_5 18 rfl rfl)
theorem dX0_block_138 : decode cX0_block 138 = .ok (.iconst 1, 1) := dk_4 (dk_at dksX0_block_5 19 rfl rfl)
theorem dX0_block_139 : decode cX0_block 139 = .ok (.iand, 1) := dk_126 (dk_at dksX0_block_5 20 rfl rfl)
theorem dX0_block_140 : decode cX0_block 140 = .ok (.goto 4, 3) := dk_167 0 4 (dk_at dksX0_block_5 21 rfl rfl)
theorem dX0_block_143 : decode cX0_block 143 = .ok (.iload_n 3, 1) := dk_29 (dk_at dksX0_block_6 0 rfl rfl)
theorem dX0_block_144 : decode cX0_block 144 = .ok (.ireturn, 1) := dk_172 (dk_at dksX0_block_6 1 rfl rfl)
def dkwX0_isBlock_0 : List UInt8 := [27, 133, 9, 42, 180, 0, 107, 180, 0, 188, 4, 100, 133, 184, 0, 136, 172]
abbrev dktX0_isBlock_0 : List UInt8 := dkwX0_isBlock_0 ++ []
theorem dksX0_isBlock_0 : cX0_isBlock.data.toList.drop 0 = dktX0_isBlock_0 := by decide +kernel
theorem dX0_isBlock_0 : decode cX0_isBlock 0 = .ok (.iload_n 1, 1) := dk_27 (dk_at dksX0_isBlock_0 0 rfl rfl)
theorem dX0_isBlock_1 : decode cX0_isBlock 1 = .ok (.i2l, 1) := dk_133 (dk_at dksX0_isBlock_0 1 rfl rfl)
theorem dX0_isBlock_2 : decode cX0_isBlock 2 = .ok (.lconst 0, 1) := dk_9 (dk_at dksX0_isBlock_0 2 rfl rfl)
theorem dX0_isBlock_3 : decode cX0_isBlock 3 = .ok (.aload_n 0, 1) := dk_42 (dk_at dksX0_isBlock_0 3 rfl rfl)
theorem dX0_isBlock_4 : decode cX0_isBlock 4 = .ok (.getfield 107, 3) := dk_180 0 107 (dk_at dksX0_isBlock_0 4 rfl rfl)
theorem dX0_isBlock_7 : decode cX0_isBlock 7 = .ok (.getfield 188, 3) := dk_180 0 188 (dk_at dksX0_isBlock_0 7 rfl rfl)
theorem dX0_isBlock_10 : decode cX0_isBlock 10 = .ok (.iconst 1, 1) := dk_4 (dk_at dksX0_isBlock_0 10 rfl rfl)
theorem dX0_isBlock_11 : decode cX0_isBlock 11 = .ok (.isub, 1) := dk_100 (dk_at dksX0_isBlock_0 11 rfl rfl)
theorem dX0_isBlock_12 : decode cX0_isBlock 12 = .ok (.i2l, 1) := dk_133 (dk_at dksX0_isBlock_0 12 rfl rfl)
theorem dX0_isBlock_13 : decode cX0_isBlock 13 = .ok (.invokestatic 136, 3) := dk_184 0 136 (dk_at dksX0_isBlock_0 13 rfl rfl)
theorem dX0_isBlock_16 : decode cX0_isBlock 16 = .ok (.ireturn, 1) := dk_172 (dk_at dksX0_isBlock_0 16 rfl rfl)
def dkwX0_lock_1 : List UInt8 := [180, 0, 7, 5, 27, 104, 28, 96, 51, 167, 0, 4, 2, 172]
abbrev dktX0_lock_1 : List UInt8 := dkwX0_lock_1 ++ []
def dkwX0_lock_0 : List UInt8 := [27, 133, 9, 42, 180, 0, 1, 4, 100, 133, 184, 0, 136, 153, 0, 23, 28, 184, 0, 202, 153, 0, 16, 42]
abbrev dktX0_lock_0 : List UInt8 := dkwX0_lock_0 ++ dktX0_lock_1
theorem dksX0_lock_0 : cX0_lock.data.toList.drop 0 = dktX0_lock_0 := by decide +kernel
theorem dksX0_lock_1 : cX0_lock.data.toList.drop 24 = dktX0_lock_1 := dk_seg dksX0_lock_0 24 rfl rfl
theorem dX0_lock_0 : decode cX0_lock 0 = .ok (.iload_n 1, 1) := dk_27 (dk_at dksX0_lock_0 0 rfl rfl)
theorem dX0_lock_1 : decode cX0_lock 1 = .ok (.i2l, 1) := dk_133 (dk_at dksX0_lock_0 1 rfl rfl)
theorem dX0_lock_2 : decode cX0_lock 2 = .ok (.lconst 0, 1) := dk_9 (dk_at dksX0_lock_0 2 rfl rfl)
theorem dX0_lock_3 : decode cX0_lock 3 = .ok (.aload_n 0, 1) := dk_42 (dk_at dksX0_lock_0 3 rfl rfl)
theorem dX0_lock_4 : decode cX0_lock 4 = .ok (.getfield 1, 3) := dk_180 0 1 (dk_at dksX0_lock_0 4 rfl rfl)
theorem dX0_lock_7 : decode cX0_lock 7 = .ok (.iconst 1, 1) := dk_4 (dk_at dksX0_lock_0 7 rfl rfl)
theorem dX0_lock_8 : decode cX0_lock 8 = .ok (.isub, 1) := dk_100 (dk_at dksX0_lock_0 8 rfl rfl)
theorem dX0_lock_9 : decode cX0_lock 9 = .ok (.i2l, 1) := dk_133 (dk_at dksX0_lock_0 9 rfl rfl)
theorem dX0_lock_10 : decode cX0_lock 10 = .ok (.invokestatic 136, 3) := dk_184 0 136 (dk_at dksX0_lock_0 10 rfl rfl)
theorem dX0_lock_13 : decode cX0_lock 13 = .ok (.ifCond .eq 23, 3) := dk_153 0 23 (dk_at dksX0_lock_0 13 rfl rfl)
theorem dX0_lock_16 : decode cX0_lock 16 = .ok (.iload_n 2, 1) := dk_28 (dk_at dksX0_lock_0 16 rfl rfl)
theorem dX0_lock_17 : decode cX0_lock 17 = .ok (.invokestatic 202, 3) := dk_184 0 202 (dk_at dksX0_lock_0 17 rfl rfl)
theorem dX0_lock_20 : decode cX0_lock 20 = .ok (.ifCond .eq 16, 3) := dk_153 0 16 (dk_at dksX0_lock_0 20 rfl rfl)
theorem dX0_lock_23 : decode cX0_lock 23 = .ok (.aload_n 0, 1) := dk_42 (dk_at dksX0_lock_0 23 rfl rfl)
theorem dX0_lock_24 : decode cX0_lock 24 = .ok (.getfield 7, 3) := dk_180 0 7 (dk_at dksX0_lock_1 0 rfl rfl)
theorem dX0_lock_27 : decode cX0_lock 27 = .ok (.iconst 2, 1) := dk_5 (dk_at dksX0_lock_1 3 rfl rfl)
theorem dX0_lock_28 : decode cX0_lock 28 = .ok (.iload_n 1, 1) := dk_27 (dk_at dksX0_lock_1 4 rfl rfl)
theorem dX0_lock_29 : decode cX0_lock 29 = .ok (.imul, 1) := dk_104 (dk_at dksX0_lock_1 5 rfl rfl)
theorem dX0_lock_30 : decode cX0_lock 30 = .ok (.iload_n 2, 1) := dk_28 (dk_at dksX0_lock_1 6 rfl rfl)
theorem dX0_lock_31 : decode cX0_lock 31 = .ok (.iadd, 1) := dk_96 (dk_at dksX0_lock_1 7 rfl rfl)
theorem dX0_lock_32 : decode cX0_lock 32 = .ok (.baload, 1) := dk_51 (dk_at dksX0_lock_1 8 rfl rfl)
theorem dX0_lock_33 : decode cX0_lock 33 = .ok (.goto 4, 3) := dk_167 0 4 (dk_at dksX0_lock_1 9 rfl rfl)
theorem dX0_lock_36 : decode cX0_lock 36 = .ok (.iconst (-1), 1) := dk_2 (dk_at dksX0_lock_1 12 rfl rfl)
theorem dX0_lock_37 : decode cX0_lock 37 = .ok (.ireturn, 1) := dk_172 (dk_at dksX0_lock_1 13 rfl rfl)
def dkwX0_isPart_0 : List UInt8 := [26, 133, 9, 10, 184, 0, 136, 172]
abbrev dktX0_isPart_0 : List UInt8 := dkwX0_isPart_0 ++ []
theorem dksX0_isPart_0 : cX0_isPart.data.toList.drop 0 = dktX0_isPart_0 := by decide +kernel
theorem dX0_isPart_0 : decode cX0_isPart 0 = .ok (.iload_n 0, 1) := dk_26 (dk_at dksX0_isPart_0 0 rfl rfl)
theorem dX0_isPart_1 : decode cX0_isPart 1 = .ok (.i2l, 1) := dk_133 (dk_at dksX0_isPart_0 1 rfl rfl)
theorem dX0_isPart_2 : decode cX0_isPart 2 = .ok (.lconst 0, 1) := dk_9 (dk_at dksX0_isPart_0 2 rfl rfl)
theorem dX0_isPart_3 : decode cX0_isPart 3 = .ok (.lconst 1, 1) := dk_10 (dk_at dksX0_isPart_0 3 rfl rfl)
theorem dX0_isPart_4 : decode cX0_isPart 4 = .ok (.invokestatic 136, 3) := dk_184 0 136 (dk_at dksX0_isPart_0 4 rfl rfl)
theorem dX0_isPart_7 : decode cX0_isPart 7 = .ok (.ireturn, 1) := dk_172 (dk_at dksX0_isPart_0 7 rfl rfl)
def dkwX0_train_1 : List UInt8 := [27, 28, 182, 0, 64, 167, 0, 4, 2, 172]
abbrev dktX0_train_1 : List UInt8 := dkwX0_train_1 ++ []
def dkwX0_train_0 : List UInt8 := [42, 27, 182, 0, 205, 153, 0, 27, 28, 133, 9, 20, 0, 208, 184, 0, 136, 153, 0, 15, 42, 180, 0, 107]
abbrev dktX0_train_0 : List UInt8 := dkwX0_train_0 ++ dktX0_train_1
theorem dksX0_train_0 : cX0_train.data.toList.drop 0 = dktX0_train_0 := by decide +kernel
theorem dksX0_train_1 : cX0_train.data.toList.drop 24 = dktX0_train_1 := dk_seg dksX0_train_0 24 rfl rfl
theorem dX0_train_0 : decode cX0_train 0 = .ok (.aload_n 0, 1) := dk_42 (dk_at dksX0_train_0 0 rfl rfl)
theorem dX0_train_1 : decode cX0_train 1 = .ok (.iload_n 1, 1) := dk_27 (dk_at dksX0_train_0 1 rfl rfl)
theorem dX0_train_2 : decode cX0_train 2 = .ok (.invokevirtual 205, 3) := dk_182 0 205 (dk_at dksX0_train_0 2 rfl rfl)
theorem dX0_train_5 : decode cX0_train 5 = .ok (.ifCond .eq 27, 3) := dk_153 0 27 (dk_at dksX0_train_0 5 rfl rfl)
theorem dX0_train_8 : decode cX0_train 8 = .ok (.iload_n 2, 1) := dk_28 (dk_at dksX0_train_0 8 rfl rfl)
theorem dX0_train_9 : decode cX0_train 9 = .ok (.i2l, 1) := dk_133 (dk_at dksX0_train_0 9 rfl rfl)
theorem dX0_train_10 : decode cX0_train 10 = .ok (.lconst 0, 1) := dk_9 (dk_at dksX0_train_0 10 rfl rfl)
theorem dX0_train_11 : decode cX0_train 11 = .ok (.ldc2_w 208, 3) := dk_20 0 208 (dk_at dksX0_train_0 11 rfl rfl)
theorem dX0_train_14 : decode cX0_train 14 = .ok (.invokestatic 136, 3) := dk_184 0 136 (dk_at dksX0_train_0 14 rfl rfl)
theorem dX0_train_17 : decode cX0_train 17 = .ok (.ifCond .eq 15, 3) := dk_153 0 15 (dk_at dksX0_train_0 17 rfl rfl)
theorem dX0_train_20 : decode cX0_train 20 = .ok (.aload_n 0, 1) := dk_42 (dk_at dksX0_train_0 20 rfl rfl)
theorem dX0_train_21 : decode cX0_train 21 = .ok (.getfield 107, 3) := dk_180 0 107 (dk_at dksX0_train_0 21 rfl rfl)
theorem dX0_train_24 : decode cX0_train 24 = .ok (.iload_n 1, 1) := dk_27 (dk_at dksX0_train_1 0 rfl rfl)
theorem dX0_train_25 : decode cX0_train 25 = .ok (.iload_n 2, 1) := dk_28 (dk_at dksX0_train_1 1 rfl rfl)
theorem dX0_train_26 : decode cX0_train 26 = .ok (.invokevirtual 64, 3) := dk_182 0 64 (dk_at dksX0_train_1 2 rfl rfl)
theorem dX0_train_29 : decode cX0_train 29 = .ok (.goto 4, 3) := dk_167 0 4 (dk_at dksX0_train_1 5 rfl rfl)
theorem dX0_train_32 : decode cX0_train 32 = .ok (.iconst (-1), 1) := dk_2 (dk_at dksX0_train_1 8 rfl rfl)
theorem dX0_train_33 : decode cX0_train 33 = .ok (.ireturn, 1) := dk_172 (dk_at dksX0_train_1 9 rfl rfl)
def dkwX0_isTrain_0 : List UInt8 := [27, 133, 9, 42, 180, 0, 107, 180, 0, 15, 4, 100, 133, 184, 0, 136, 172]
abbrev dktX0_isTrain_0 : List UInt8 := dkwX0_isTrain_0 ++ []
theorem dksX0_isTrain_0 : cX0_isTrain.data.toList.drop 0 = dktX0_isTrain_0 := by decide +kernel
theorem dX0_isTrain_0 : decode cX0_isTrain 0 = .ok (.iload_n 1, 1) := dk_27 (dk_at dksX0_isTrain_0 0 rfl rfl)
theorem dX0_isTrain_1 : decode cX0_isTrain 1 = .ok (.i2l, 1) := dk_133 (dk_at dksX0_isTrain_0 1 rfl rfl)
theorem dX0_isTrain_2 : decode cX0_isTrain 2 = .ok (.lconst 0, 1) := dk_9 (dk_at dksX0_isTrain_0 2 rfl rfl)
theorem dX0_isTrain_3 : decode cX0_isTrain 3 = .ok (.aload_n 0, 1) := dk_42 (dk_at dksX0_isTrain_0 3 rfl rfl)
theorem dX0_isTrain_4 : decode cX0_isTrain 4 = .ok (.getfield 107, 3) := dk_180 0 107 (dk_at dksX0_isTrain_0 4 rfl rfl)
theorem dX0_isTrain_7 : decode cX0_isTrain 7 = .ok (.getfield 15, 3) := dk_180 0 15 (dk_at dksX0_isTrain_0 7 rfl rfl)
theorem dX0_isTrain_10 : decode cX0_isTrain 10 = .ok (.iconst 1, 1) := dk_4 (dk_at dksX0_isTrain_0 10 rfl rfl)
theorem dX0_isTrain_11 : decode cX0_isTrain 11 = .ok (.isub, 1) := dk_100 (dk_at dksX0_isTrain_0 11 rfl rfl)
theorem dX0_isTrain_12 : decode cX0_isTrain 12 = .ok (.i2l, 1) := dk_133 (dk_at dksX0_isTrain_0 12 rfl rfl)
theorem dX0_isTrain_13 : decode cX0_isTrain 13 = .ok (.invokestatic 136, 3) := dk_184 0 136 (dk_at dksX0_isTrain_0 13 rfl rfl)
theorem dX0_isTrain_16 : decode cX0_isTrain 16 = .ok (.ireturn, 1) := dk_172 (dk_at dksX0_isTrain_0 16 rfl rfl)
def dkwX0_waits_1 : List UInt8 := [42, 180, 0, 60, 27, 50, 28, 182, 0, 70, 167, 0, 4, 2, 172]
abbrev dktX0_waits_1 : List UInt8 := dkwX0_waits_1 ++ []
def dkwX0_waits_0 : List UInt8 := [27, 133, 9, 20, 0, 208, 184, 0, 136, 153, 0, 28, 28, 133, 9, 20, 0, 210, 184, 0, 136, 153, 0, 16]
abbrev dktX0_waits_0 : List UInt8 := dkwX0_waits_0 ++ dktX0_waits_1
theorem dksX0_waits_0 : cX0_waits.data.toList.drop 0 = dktX0_waits_0 := by decide +kernel
theorem dksX0_waits_1 : cX0_waits.data.toList.drop 24 = dktX0_waits_1 := dk_seg dksX0_waits_0 24 rfl rfl
theorem dX0_waits_0 : decode cX0_waits 0 = .ok (.iload_n 1, 1) := dk_27 (dk_at dksX0_waits_0 0 rfl rfl)
theorem dX0_waits_1 : decode cX0_waits 1 = .ok (.i2l, 1) := dk_133 (dk_at dksX0_waits_0 1 rfl rfl)
theorem dX0_waits_2 : decode cX0_waits 2 = .ok (.lconst 0, 1) := dk_9 (dk_at dksX0_waits_0 2 rfl rfl)
theorem dX0_waits_3 : decode cX0_waits 3 = .ok (.ldc2_w 208, 3) := dk_20 0 208 (dk_at dksX0_waits_0 3 rfl rfl)
theorem dX0_waits_6 : decode cX0_waits 6 = .ok (.invokestatic 136, 3) := dk_184 0 136 (dk_at dksX0_waits_0 6 rfl rfl)
theorem dX0_waits_9 : decode cX0_waits 9 = .ok (.ifCond .eq 28, 3) := dk_153 0 28 (dk_at dksX0_waits_0 9 rfl rfl)
theorem dX0_waits_12 : decode cX0_waits 12 = .ok (.iload_n 2, 1) := dk_28 (dk_at dksX0_waits_0 12 rfl rfl)
theorem dX0_waits_13 : decode cX0_waits 13 = .ok (.i2l, 1) := dk_133 (dk_at dksX0_waits_0 13 rfl rfl)
theorem dX0_waits_14 : decode cX0_waits 14 = .ok (.lconst 0, 1) := dk_9 (dk_at dksX0_waits_0 14 rfl rfl)
theorem dX0_waits_15 : decode cX0_waits 15 = .ok (.ldc2_w 210, 3) := dk_20 0 210 (dk_at dksX0_waits_0 15 rfl rfl)
theorem dX0_waits_18 : decode cX0_waits 18 = .ok (.invokestatic 136, 3) := dk_184 0 136 (dk_at dksX0_waits_0 18 rfl rfl)
theorem dX0_waits_21 : decode cX0_waits 21 = .ok (.ifCond .eq 16, 3) := dk_153 0 16 (dk_at dksX0_waits_0 21 rfl rfl)
theorem dX0_waits_24 : decode cX0_waits 24 = .ok (.aload_n 0, 1) := dk_42 (dk_at dksX0_waits_1 0 rfl rfl)
theorem dX0_waits_25 : decode cX0_waits 25 = .ok (.getfield 60, 3) := dk_180 0 60 (dk_at dksX0_waits_1 1 rfl rfl)
theorem dX0_waits_28 : decode cX0_waits 28 = .ok (.iload_n 1, 1) := dk_27 (dk_at dksX0_waits_1 4 rfl rfl)
theorem dX0_waits_29 : decode cX0_waits 29 = .ok (.aaload, 1) := dk_50 (dk_at dksX0_waits_1 5 rfl rfl)
theorem dX0_waits_30 : decode cX0_waits 30 = .ok (.iload_n 2, 1) := dk_28 (dk_at dksX0_waits_1 6 rfl rfl)
theorem dX0_waits_31 : decode cX0_waits 31 = .ok (.invokevirtual 70, 3) := dk_182 0 70 (dk_at dksX0_waits_1 7 rfl rfl)
theorem dX0_waits_34 : decode cX0_waits 34 = .ok (.goto 4, 3) := dk_167 0 4 (dk_at dksX0_waits_1 10 rfl rfl)
theorem dX0_waits_37 : decode cX0_waits 37 = .ok (.iconst (-1), 1) := dk_2 (dk_at dksX0_waits_1 13 rfl rfl)
theorem dX0_waits_38 : decode cX0_waits 38 = .ok (.ireturn, 1) := dk_172 (dk_at dksX0_waits_1 14 rfl rfl)
def dkwX0_hang_2 : List UInt8 := [42, 180, 0, 107, 180, 0, 67, 27, 28, 145, 84, 29, 172]
abbrev dktX0_hang_2 : List UInt8 := dkwX0_hang_2 ++ []
def dkwX0_hang_1 : List UInt8 := [180, 0, 107, 27, 28, 182, 0, 215, 154, 0, 6, 16, 254, 172, 42, 180, 0, 107, 180, 0, 67, 27, 51, 62]
abbrev dktX0_hang_1 : List UInt8 := dkwX0_hang_1 ++ dktX0_hang_2
def dkwX0_hang_0 : List UInt8 := [42, 27, 182, 0, 196, 153, 0, 15, 28, 133, 9, 20, 0, 210, 184, 0, 136, 154, 0, 5, 2, 172, 42, 42]
abbrev dktX0_hang_0 : List UInt8 := dkwX0_hang_0 ++ dktX0_hang_1
theorem dksX0_hang_0 : cX0_hang.data.toList.drop 0 = dktX0_hang_0 := by decide +kernel
theorem dksX0_hang_1 : cX0_hang.data.toList.drop 24 = dktX0_hang_1 := dk_seg dksX0_hang_0 24 rfl rfl
theorem dksX0_hang_2 : cX0_hang.data.toList.drop 48 = dktX0_hang_2 := dk_seg dksX0_hang_1 24 rfl rfl
theorem dX0_hang_0 : decode cX0_hang 0 = .ok (.aload_n 0, 1) := dk_42 (dk_at dksX0_hang_0 0 rfl rfl)
theorem dX0_hang_1 : decode cX0_hang 1 = .ok (.iload_n 1, 1) := dk_27 (dk_at dksX0_hang_0 1 rfl rfl)
theorem dX0_hang_2 : decode cX0_hang 2 = .ok (.invokevirtual 196, 3) := dk_182 0 196 (dk_at dksX0_hang_0 2 rfl rfl)
theorem dX0_hang_5 : decode cX0_hang 5 = .ok (.ifCond .eq 15, 3) := dk_153 0 15 (dk_at dksX0_hang_0 5 rfl rfl)
theorem dX0_hang_8 : decode cX0_hang 8 = .ok (.iload_n 2, 1) := dk_28 (dk_at dksX0_hang_0 8 rfl rfl)
theorem dX0_hang_9 : decode cX0_hang 9 = .ok (.i2l, 1) := dk_133 (dk_at dksX0_hang_0 9 rfl rfl)
theorem dX0_hang_10 : decode cX0_hang 10 = .ok (.lconst 0, 1) := dk_9 (dk_at dksX0_hang_0 10 rfl rfl)
theorem dX0_hang_11 : decode cX0_hang 11 = .ok (.ldc2_w 210, 3) := dk_20 0 210 (dk_at dksX0_hang_0 11 rfl rfl)
theorem dX0_hang_14 : decode cX0_hang 14 = .ok (.invokestatic 136, 3) := dk_184 0 136 (dk_at dksX0_hang_0 14 rfl rfl)
theorem dX0_hang_17 : decode cX0_hang 17 = .ok (.ifCond .ne 5, 3) := dk_154 0 5 (dk_at dksX0_hang_0 17 rfl rfl)
theorem dX0_hang_20 : decode cX0_hang 20 = .ok (.iconst (-1), 1) := dk_2 (dk_at dksX0_hang_0 20 rfl rfl)
theorem dX0_hang_21 : decode cX0_hang 21 = .ok (.ireturn, 1) := dk_172 (dk_at dksX0_hang_0 21 rfl rfl)
theorem dX0_hang_22 : decode cX0_hang 22 = .ok (.aload_n 0, 1) := dk_42 (dk_at dksX0_hang_0 22 rfl rfl)
theorem dX0_hang_23 : decode cX0_hang 23 = .ok (.aload_n 0, 1) := dk_42 (dk_at dksX0_hang_0 23 rfl rfl)
theorem dX0_hang_24 : decode cX0_hang 24 = .ok (.getfield 107, 3) := dk_180 0 107 (dk_at dksX0_hang_1 0 rfl rfl)
theorem dX0_hang_27 : decode cX0_hang 27 = .ok (.iload_n 1, 1) := dk_27 (dk_at dksX0_hang_1 3 rfl rfl)
theorem dX0_hang_28 : decode cX0_hang 28 = .ok (.iload_n 2, 1) := dk_28 (dk_at dksX0_hang_1 4 rfl rfl)
theorem dX0_hang_29 : decode cX0_hang 29 = .ok (.invokevirtual 215, 3) := dk_182 0 215 (dk_at dksX0_hang_1 5 rfl rfl)
theorem dX0_hang_32 : decode cX0_hang 32 = .ok (.ifCond .ne 6, 3) := dk_154 0 6 (dk_at dksX0_hang_1 8 rfl rfl)
theorem dX0_hang_35 : decode cX0_hang 35 = .ok (.bipush (-2), 2) := dk_16 254 (dk_at dksX0_hang_1 11 rfl rfl)
theorem dX0_hang_37 : decode cX0_hang 37 = .ok (.ireturn, 1) := dk_172 (dk_at dksX0_hang_1 13 rfl rfl)
theorem dX0_hang_38 : decode cX0_hang 38 = .ok (.aload_n 0, 1) := dk_42 (dk_at dksX0_hang_1 14 rfl rfl)
theorem dX0_hang_39 : decode cX0_hang 39 = .ok (.getfield 107, 3) := dk_180 0 107 (dk_at dksX0_hang_1 15 rfl rfl)
theorem dX0_hang_42 : decode cX0_hang 42 = .ok (.getfield 67, 3) := dk_180 0 67 (dk_at dksX0_hang_1 18 rfl rfl)
theorem dX0_hang_45 : decode cX0_hang 45 = .ok (.iload_n 1, 1) := dk_27 (dk_at dksX0_hang_1 21 rfl rfl)
theorem dX0_hang_46 : decode cX0_hang 46 = .ok (.baload, 1) := dk_51 (dk_at dksX0_hang_1 22 rfl rfl)
theorem dX0_hang_47 : decode cX0_hang 47 = .ok (.istore_n 3, 1) := dk_62 (dk_at dksX0_hang_1 23 rfl rfl)
theorem dX0_hang_48 : decode cX0_hang 48 = .ok (.aload_n 0, 1) := dk_42 (dk_at dksX0_hang_2 0 rfl rfl)
theorem dX0_hang_49 : decode cX0_hang 49 = .ok (.getfield 107, 3) := dk_180 0 107 (dk_at dksX0_hang_2 1 rfl rfl)
theorem dX0_hang_52 : decode cX0_hang 52 = .ok (.getfield 67, 3) := dk_180 0 67 (dk_at dksX0_hang_2 4 rfl rfl)
theorem dX0_hang_55 : decode cX0_hang 55 = .ok (.iload_n 1, 1) := dk_27 (dk_at dksX0_hang_2 7 rfl rfl)
theorem dX0_hang_56 : decode cX0_hang 56 = .ok (.iload_n 2, 1) := dk_28 (dk_at dksX0_hang_2 8 rfl rfl)
theorem dX0_hang_57 : decode cX0_hang 57 = .ok (.i2b, 1) := dk_145 (dk_at dksX0_hang_2 9 rfl rfl)
theorem dX0_hang_58 : decode cX0_hang 58 = .ok (.bastore, 1) := dk_84 (dk_at dksX0_hang_2 10 rfl rfl)
theorem dX0_hang_59 : decode cX0_hang 59 = .ok (.iload_n 3, 1) := dk_29 (dk_at dksX0_hang_2 11 rfl rfl)
theorem dX0_hang_60 : decode cX0_hang 60 = .ok (.ireturn, 1) := dk_172 (dk_at dksX0_hang_2 12 rfl rfl)
def dkwX0_canHang_1 : List UInt8 := [172]
abbrev dktX0_canHang_1 : List UInt8 := dkwX0_canHang_1 ++ []
def dkwX0_canHang_0 : List UInt8 := [29, 153, 0, 18, 42, 43, 182, 0, 193, 4, 28, 120, 128, 182, 0, 212, 153, 0, 7, 4, 167, 0, 4, 3]
abbrev dktX0_canHang_0 : List UInt8 := dkwX0_canHang_0 ++ dktX0_canHang_1
theorem dksX0_canHang_0 : cX0_canHang.data.toList.drop 0 = dktX0_canHang_0 := by decide +kernel
theorem dksX0_canHang_1 : cX0_canHang.data.toList.drop 24 = dktX0_canHang_1 := dk_seg dksX0_canHang_0 24 rfl rfl
theorem dX0_canHang_0 : decode cX0_canHang 0 = .ok (.iload_n 3, 1) := dk_29 (dk_at dksX0_canHang_0 0 rfl rfl)
theorem dX0_canHang_1 : decode cX0_canHang 1 = .ok (.ifCond .eq 18, 3) := dk_153 0 18 (dk_at dksX0_canHang_0 1 rfl rfl)
theorem dX0_canHang_4 : decode cX0_canHang 4 = .ok (.aload_n 0, 1) := dk_42 (dk_at dksX0_canHang_0 4 rfl rfl)
theorem dX0_canHang_5 : decode cX0_canHang 5 = .ok (.aload_n 1, 1) := dk_43 (dk_at dksX0_canHang_0 5 rfl rfl)
theorem dX0_canHang_6 : decode cX0_canHang 6 = .ok (.invokevirtual 193, 3) := dk_182 0 193 (dk_at dksX0_canHang_0 6 rfl rfl)
theorem dX0_canHang_9 : decode cX0_canHang 9 = .ok (.iconst 1, 1) := dk_4 (dk_at dksX0_canHang_0 9 rfl rfl)
theorem dX0_canHang_10 : decode cX0_canHang 10 = .ok (.iload_n 2, 1) := dk_28 (dk_at dksX0_canHang_0 10 rfl rfl)
theorem dX0_canHang_11 : decode cX0_canHang 11 = .ok (.ishl, 1) := dk_120 (dk_at dksX0_canHang_0 11 rfl rfl)
theorem dX0_canHang_12 : decode cX0_canHang 12 = .ok (.ior, 1) := dk_128 (dk_at dksX0_canHang_0 12 rfl rfl)
theorem dX0_canHang_13 : decode cX0_canHang 13 = .ok (.invokevirtual 212, 3) := dk_182 0 212 (dk_at dksX0_canHang_0 13 rfl rfl)
theorem dX0_canHang_16 : decode cX0_canHang 16 = .ok (.ifCond .eq 7, 3) := dk_153 0 7 (dk_at dksX0_canHang_0 16 rfl rfl)
theorem dX0_canHang_19 : decode cX0_canHang 19 = .ok (.iconst 1, 1) := dk_4 (dk_at dksX0_canHang_0 19 rfl rfl)
theorem dX0_canHang_20 : decode cX0_canHang 20 = .ok (.goto 4, 3) := dk_167 0 4 (dk_at dksX0_canHang_0 20 rfl rfl)
theorem dX0_canHang_23 : decode cX0_canHang 23 = .ok (.iconst 0, 1) := dk_3 (dk_at dksX0_canHang_0 23 rfl rfl)
theorem dX0_canHang_24 : decode cX0_canHang 24 = .ok (.ireturn, 1) := dk_172 (dk_at dksX0_canHang_1 0 rfl rfl)
def dkwX0_isAllowed_2 : List UInt8 := [167, 0, 4, 3, 126, 61, 132, 3, 1, 167, 255, 205, 28, 172]
abbrev dktX0_isAllowed_2 : List UInt8 := dkwX0_isAllowed_2 ++ []
def dkwX0_isAllowed_1 : List UInt8 := [184, 0, 11, 153, 0, 20, 27, 42, 180, 0, 7, 5, 29, 104, 4, 96, 51, 184, 0, 11, 154, 0, 7, 4]
abbrev dktX0_isAllowed_1 : List UInt8 := dkwX0_isAllowed_1 ++ dktX0_isAllowed_2
def dkwX0_isAllowed_0 : List UInt8 := [4, 61, 3, 62, 29, 42, 180, 0, 1, 162, 0, 49, 28, 27, 42, 180, 0, 7, 5, 29, 104, 51]
abbrev dktX0_isAllowed_0 : List UInt8 := dkwX0_isAllowed_0 ++ dktX0_isAllowed_1
theorem dksX0_isAllowed_0 : cX0_isAllowed.data.toList.drop 0 = dktX0_isAllowed_0 := by decide +kernel
theorem dksX0_isAllowed_1 : cX0_isAllowed.data.toList.drop 22 = dktX0_isAllowed_1 := dk_seg dksX0_isAllowed_0 22 rfl rfl
theorem dksX0_isAllowed_2 : cX0_isAllowed.data.toList.drop 46 = dktX0_isAllowed_2 := dk_seg dksX0_isAllowed_1 24 rfl rfl
theorem dX0_isAllowed_0 : decode cX0_isAllowed 0 = .ok (.iconst 1, 1) := dk_4 (dk_at dksX0_isAllowed_0 0 rfl rfl)
theorem dX0_isAllowed_1 : decode cX0_isAllowed 1 = .ok (.istore_n 2, 1) := dk_61 (dk_at dksX0_isAllowed_0 1 rfl rfl)
theorem dX0_isAllowed_2 : decode cX0_isAllowed 2 = .ok (.iconst 0, 1) := dk_3 (dk_at dksX0_isAllowed_0 2 rfl rfl)
theorem dX0_isAllowed_3 : decode cX0_isAllowed 3 = .ok (.istore_n 3, 1) := dk_62 (dk_at dksX0_isAllowed_0 3 rfl rfl)
theorem dX0_isAllowed_4 : decode cX0_isAllowed 4 = .ok (.iload_n 3, 1) := dk_29 (dk_at dksX0_isAllowed_0 4 rfl rfl)
theorem dX0_isAllowed_5 : decode cX0_isAllowed 5 = .ok (.aload_n 0, 1) := dk_42 (dk_at dksX0_isAllowed_0 5 rfl rfl)
theorem dX0_isAllowed_6 : decode cX0_isAllowed 6 = .ok (.getfield 1, 3) := dk_180 0 1 (dk_at dksX0_isAllowed_0 6 rfl rfl)
theorem dX0_isAllowed_9 : decode cX0_isAllowed 9 = .ok (.if_icmp .ge 49, 3) := dk_162 0 49 (dk_at dksX0_isAllowed_0 9 rfl rfl)
theorem dX0_isAllowed_12 : decode cX0_isAllowed 12 = .ok (.iload_n 2, 1) := dk_28 (dk_at dksX0_isAllowed_0 12 rfl rfl)
theorem dX0_isAllowed_13 : decode cX0_isAllowed 13 = .ok (.iload_n 1, 1) := dk_27 (dk_at dksX0_isAllowed_0 13 rfl rfl)
theorem dX0_isAllowed_14 : decode cX0_isAllowed 14 = .ok (.aload_n 0, 1) := dk_42 (dk_at dksX0_isAllowed_0 14 rfl rfl)
theorem dX0_isAllowed_15 : decode cX0_isAllowed 15 = .ok (.getfield 7, 3) := dk_180 0 7 (dk_at dksX0_isAllowed_0 15 rfl rfl)
theorem dX0_isAllowed_18 : decode cX0_isAllowed 18 = .ok (.iconst 2, 1) := dk_5 (dk_at dksX0_isAllowed_0 18 rfl rfl)
theorem dX0_isAllowed_19 : decode cX0_isAllowed 19 = .ok (.iload_n 3, 1) := dk_29 (dk_at dksX0_isAllowed_0 19 rfl rfl)
theorem dX0_isAllowed_20 : decode cX0_isAllowed 20 = .ok (.imul, 1) := dk_104 (dk_at dksX0_isAllowed_0 20 rfl rfl)
theorem dX0_isAllowed_21 : decode cX0_isAllowed 21 = .ok (.baload, 1) := dk_51 (dk_at dksX0_isAllowed_0 21 rfl rfl)
theorem dX0_isAllowed_22 : decode cX0_isAllowed 22 = .ok (.invokestatic 11, 3) := dk_184 0 11 (dk_at dksX0_isAllowed_1 0 rfl rfl)
theorem dX0_isAllowed_25 : decode cX0_isAllowed 25 = .ok (.ifCond .eq 20, 3) := dk_153 0 20 (dk_at dksX0_isAllowed_1 3 rfl rfl)
theorem dX0_isAllowed_28 : decode cX0_isAllowed 28 = .ok (.iload_n 1, 1) := dk_27 (dk_at dksX0_isAllowed_1 6 rfl rfl)
theorem dX0_isAllowed_29 : decode cX0_isAllowed 29 = .ok (.aload_n 0, 1) := dk_42 (dk_at dksX0_isAllowed_1 7 rfl rfl)
theorem dX0_isAllowed_30 : decode cX0_isAllowed 30 = .ok (.getfield 7, 3) := dk_180 0 7 (dk_at dksX0_isAllowed_1 8 rfl rfl)
theorem dX0_isAllowed_33 : decode cX0_isAllowed 33 = .ok (.iconst 2, 1) := dk_5 (dk_at dksX0_isAllowed_1 11 rfl rfl)
theorem dX0_isAllowed_34 : decode cX0_isAllowed 34 = .ok (.iload_n 3, 1) := dk_29 (dk_at dksX0_isAllowed_1 12 rfl rfl)
theorem dX0_isAllowed_35 : decode cX0_isAllowed 35 = .ok (.imul, 1) := dk_104 (dk_at dksX0_isAllowed_1 13 rfl rfl)
theorem dX0_isAllowed_36 : decode cX0_isAllowed 36 = .ok (.iconst 1, 1) := dk_4 (dk_at dksX0_isAllowed_1 14 rfl rfl)
theorem dX0_isAllowed_37 : decode cX0_isAllowed 37 = .ok (.iadd, 1) := dk_96 (dk_at dksX0_isAllowed_1 15 rfl rfl)
theorem dX0_isAllowed_38 : decode cX0_isAllowed 38 = .ok (.baload, 1) := dk_51 (dk_at dksX0_isAllowed_1 16 rfl rfl)
theorem dX0_isAllowed_39 : decode cX0_isAllowed 39 = .ok (.invokestatic 11, 3) := dk_184 0 11 (dk_at dksX0_isAllowed_1 17 rfl rfl)
theorem dX0_isAllowed_42 : decode cX0_isAllowed 42 = .ok (.ifCond .ne 7, 3) := dk_154 0 7 (dk_at dksX0_isAllowed_1 20 rfl rfl)
theorem dX0_isAllowed_45 : decode cX0_isAllowed 45 = .ok (.iconst 1, 1) := dk_4 (dk_at dksX0_isAllowed_1 23 rfl rfl)
theorem dX0_isAllowed_46 : decode cX0_isAllowed 46 = .ok (.goto 4, 3) := dk_167 0 4 (dk_at dksX0_isAllowed_2 0 rfl rfl)
theorem dX0_isAllowed_49 : decode cX0_isAllowed 49 = .ok (.iconst 0, 1) := dk_3 (dk_at dksX0_isAllowed_2 3 rfl rfl)
theorem dX0_isAllowed_50 : decode cX0_isAllowed 50 = .ok (.iand, 1) := dk_126 (dk_at dksX0_isAllowed_2 4 rfl rfl)
theorem dX0_isAllowed_51 : decode cX0_isAllowed 51 = .ok (.istore_n 2, 1) := dk_61 (dk_at dksX0_isAllowed_2 5 rfl rfl)
theorem dX0_isAllowed_52 : decode cX0_isAllowed 52 = .ok (.iinc 3 1, 3) := dk_132 3 1 (dk_at dksX0_isAllowed_2 6 rfl rfl)
theorem dX0_isAllowed_55 : decode cX0_isAllowed 55 = .ok (.goto (-51), 3) := dk_167 255 205 (dk_at dksX0_isAllowed_2 9 rfl rfl)
theorem dX0_isAllowed_58 : decode cX0_isAllowed 58 = .ok (.iload_n 2, 1) := dk_28 (dk_at dksX0_isAllowed_2 12 rfl rfl)
theorem dX0_isAllowed_59 : decode cX0_isAllowed 59 = .ok (.ireturn, 1) := dk_172 (dk_at dksX0_isAllowed_2 13 rfl rfl)
def dkwX0_guard_2 : List UInt8 := [180, 0, 107, 180, 0, 35, 4, 27, 120, 2, 130, 126, 181, 0, 35, 29, 172]
abbrev dktX0_guard_2 : List UInt8 := dkwX0_guard_2 ++ []
def dkwX0_guard_1 : List UInt8 := [180, 0, 107, 28, 153, 0, 17, 42, 180, 0, 107, 180, 0, 35, 4, 27, 120, 128, 167, 0, 16, 42]
abbrev dktX0_guard_1 : List UInt8 := dkwX0_guard_1 ++ dktX0_guard_2
def dkwX0_guard_0 : List UInt8 := [42, 27, 182, 0, 196, 154, 0, 5, 2, 172, 42, 180, 0, 107, 180, 0, 35, 27, 122, 4, 126, 62, 42]
abbrev dktX0_guard_0 : List UInt8 := dkwX0_guard_0 ++ dktX0_guard_1
theorem dksX0_guard_0 : cX0_guard.data.toList.drop 0 = dktX0_guard_0 := by decide +kernel
theorem dksX0_guard_1 : cX0_guard.data.toList.drop 23 = dktX0_guard_1 := dk_seg dksX0_guard_0 23 rfl rfl
theorem dksX0_guard_2 : cX0_guard.data.toList.drop 45 = dktX0_guard_2 := dk_seg dksX0_guard_1 22 rfl rfl
theorem dX0_guard_0 : decode cX0_guard 0 = .ok (.aload_n 0, 1) := dk_42 (dk_at dksX0_guard_0 0 rfl rfl)
theorem dX0_guard_1 : decode cX0_guard 1 = .ok (.iload_n 1, 1) := dk_27 (dk_at dksX0_guard_0 1 rfl rfl)
theorem dX0_guard_2 : decode cX0_guard 2 = .ok (.invokevirtual 196, 3) := dk_182 0 196 (dk_at dksX0_guard_0 2 rfl rfl)
theorem dX0_guard_5 : decode cX0_guard 5 = .ok (.ifCond .ne 5, 3) := dk_154 0 5 (dk_at dksX0_guard_0 5 rfl rfl)
theorem dX0_guard_8 : decode cX0_guard 8 = .ok (.iconst (-1), 1) := dk_2 (dk_at dksX0_guard_0 8 rfl rfl)
theorem dX0_guard_9 : decode cX0_guard 9 = .ok (.ireturn, 1) := dk_172 (dk_at dksX0_guard_0 9 rfl rfl)
theorem dX0_guard_10 : decode cX0_guard 10 = .ok (.aload_n 0, 1) := dk_42 (dk_at dksX0_guard_0 10 rfl rfl)
theorem dX0_guard_11 : decode cX0_guard 11 = .ok (.getfield 107, 3) := dk_180 0 107 (dk_at dksX0_guard_0 11 rfl rfl)
theorem dX0_guard_14 : decode cX0_guard 14 = .ok (.getfield 35, 3) := dk_180 0 35 (dk_at dksX0_guard_0 14 rfl rfl)
theorem dX0_guard_17 : decode cX0_guard 17 = .ok (.iload_n 1, 1) := dk_27 (dk_at dksX0_guard_0 17 rfl rfl)
theorem dX0_guard_18 : decode cX0_guard 18 = .ok (.ishr, 1) := dk_122 (dk_at dksX0_guard_0 18 rfl rfl)
theorem dX0_guard_19 : decode cX0_guard 19 = .ok (.iconst 1, 1) := dk_4 (dk_at dksX0_guard_0 19 rfl rfl)
theorem dX0_guard_20 : decode cX0_guard 20 = .ok (.iand, 1) := dk_126 (dk_at dksX0_guard_0 20 rfl rfl)
theorem dX0_guard_21 : decode cX0_guard 21 = .ok (.istore_n 3, 1) := dk_62 (dk_at dksX0_guard_0 21 rfl rfl)
theorem dX0_guard_22 : decode cX0_guard 22 = .ok (.aload_n 0, 1) := dk_42 (dk_at dksX0_guard_0 22 rfl rfl)
theorem dX0_guard_23 : decode cX0_guard 23 = .ok (.getfield 107, 3) := dk_180 0 107 (dk_at dksX0_guard_1 0 rfl rfl)
theorem dX0_guard_26 : decode cX0_guard 26 = .ok (.iload_n 2, 1) := dk_28 (dk_at dksX0_guard_1 3 rfl rfl)
theorem dX0_guard_27 : decode cX0_guard 27 = .ok (.ifCond .eq 17, 3) := dk_153 0 17 (dk_at dksX0_guard_1 4 rfl rfl)
theorem dX0_guard_30 : decode cX0_guard 30 = .ok (.aload_n 0, 1) := dk_42 (dk_at dksX0_guard_1 7 rfl rfl)
theorem dX0_guard_31 : decode cX0_guard 31 = .ok (.getfield 107, 3) := dk_180 0 107 (dk_at dksX0_guard_1 8 rfl rfl)
theorem dX0_guard_34 : decode cX0_guard 34 = .ok (.getfield 35, 3) := dk_180 0 35 (dk_at dksX0_guard_1 11 rfl rfl)
theorem dX0_guard_37 : decode cX0_guard 37 = .ok (.iconst 1, 1) := dk_4 (dk_at dksX0_guard_1 14 rfl rfl)
theorem dX0_guard_38 : decode cX0_guard 38 = .ok (.iload_n 1, 1) := dk_27 (dk_at dksX0_guard_1 15 rfl rfl)
theorem dX0_guard_39 : decode cX0_guard 39 = .ok (.ishl, 1) := dk_120 (dk_at dksX0_guard_1 16 rfl rfl)
theorem dX0_guard_40 : decode cX0_guard 40 = .ok (.ior, 1) := dk_128 (dk_at dksX0_guard_1 17 rfl rfl)
theorem dX0_guard_41 : decode cX0_guard 41 = .ok (.goto 16, 3) := dk_167 0 16 (dk_at dksX0_guard_1 18 rfl rfl)
theorem dX0_guard_44 : decode cX0_guard 44 = .ok (.aload_n 0, 1) := dk_42 (dk_at dksX0_guard_1 21 rfl rfl)
theorem dX0_guard_45 : decode cX0_guard 45 = .ok (.getfield 107, 3) := dk_180 0 107 (dk_at dksX0_guard_2 0 rfl rfl)
theorem dX0_guard_48 : decode cX0_guard 48 = .ok (.getfield 35, 3) := dk_180 0 35 (dk_at dksX0_guard_2 3 rfl rfl)
theorem dX0_guard_51 : decode cX0_guard 51 = .ok (.iconst 1, 1) := dk_4 (dk_at dksX0_guard_2 6 rfl rfl)
theorem dX0_guard_52 : decode cX0_guard 52 = .ok (.iload_n 1, 1) := dk_27 (dk_at dksX0_guard_2 7 rfl rfl)
theorem dX0_guard_53 : decode cX0_guard 53 = .ok (.ishl, 1) := dk_120 (dk_at dksX0_guard_2 8 rfl rfl)
theorem dX0_guard_54 : decode cX0_guard 54 = .ok (.iconst (-1), 1) := dk_2 (dk_at dksX0_guard_2 9 rfl rfl)
theorem dX0_guard_55 : decode cX0_guard 55 = .ok (.ixor, 1) := dk_130 (dk_at dksX0_guard_2 10 rfl rfl)
theorem dX0_guard_56 : decode cX0_guard 56 = .ok (.iand, 1) := dk_126 (dk_at dksX0_guard_2 11 rfl rfl)
theorem dX0_guard_57 : decode cX0_guard 57 = .ok (.putfield 35, 3) := dk_181 0 35 (dk_at dksX0_guard_2 12 rfl rfl)
theorem dX0_guard_60 : decode cX0_guard 60 = .ok (.iload_n 3, 1) := dk_29 (dk_at dksX0_guard_2 15 rfl rfl)
theorem dX0_guard_61 : decode cX0_guard 61 = .ok (.ireturn, 1) := dk_172 (dk_at dksX0_guard_2 16 rfl rfl)
def dkwX0_set_3 : List UInt8 := [182, 0, 64, 54, 4, 42, 180, 0, 107, 180, 0, 221, 7, 27, 104, 28, 96, 29, 145, 84, 21, 4, 172]
abbrev dktX0_set_3 : List UInt8 := dkwX0_set_3 ++ []
def dkwX0_set_2 : List UInt8 := [20, 0, 219, 167, 0, 6, 20, 0, 219, 184, 0, 136, 154, 0, 5, 2, 172, 42, 180, 0, 107, 27, 28]
abbrev dktX0_set_2 : List UInt8 := dkwX0_set_2 ++ dktX0_set_3
def dkwX0_set_1 : List UInt8 := [154, 0, 9, 20, 0, 208, 167, 0, 26, 28, 4, 160, 0, 7, 10, 167, 0, 17, 28, 5, 160, 0, 9]
abbrev dktX0_set_1 : List UInt8 := dkwX0_set_1 ++ dktX0_set_2
def dkwX0_set_0 : List UInt8 := [42, 27, 182, 0, 205, 153, 0, 57, 28, 133, 9, 20, 0, 208, 184, 0, 136, 153, 0, 45, 29, 133, 9, 28]
abbrev dktX0_set_0 : List UInt8 := dkwX0_set_0 ++ dktX0_set_1
theorem dksX0_set_0 : cX0_set.data.toList.drop 0 = dktX0_set_0 := by decide +kernel
theorem dksX0_set_1 : cX0_set.data.toList.drop 24 = dktX0_set_1 := dk_seg dksX0_set_0 24 rfl rfl
theorem dksX0_set_2 : cX0_set.data.toList.drop 47 = dktX0_set_2 := dk_seg dksX0_set_1 23 rfl rfl
theorem dksX0_set_3 : cX0_set.data.toList.drop 70 = dktX0_set_3 := dk_seg dksX0_set_2 23 rfl rfl
theorem dX0_set_0 : decode cX0_set 0 = .ok (.aload_n 0, 1) := dk_42 (dk_at dksX0_set_0 0 rfl rfl)
theorem dX0_set_1 : decode cX0_set 1 = .ok (.iload_n 1, 1) := dk_27 (dk_at dksX0_set_0 1 rfl rfl)
theorem dX0_set_2 : decode cX0_set 2 = .ok (.invokevirtual 205, 3) := dk_182 0 205 (dk_at dksX0_set_0 2 rfl rfl)
theorem dX0_set_5 : decode cX0_set 5 = .ok (.ifCond .eq 57, 3) := dk_153 0 57 (dk_at dksX0_set_0 5 rfl rfl)
theorem dX0_set_8 : decode cX0_set 8 = .ok (.iload_n 2, 1) := dk_28 (dk_at dksX0_set_0 8 rfl rfl)
theorem dX0_set_9 : decode cX0_set 9 = .ok (.i2l, 1) := dk_133 (dk_at dksX0_set_0 9 rfl rfl)
theorem dX0_set_10 : decode cX0_set 10 = .ok (.lconst 0, 1) := dk_9 (dk_at dksX0_set_0 10 rfl rfl)
theorem dX0_set_11 : decode cX0_set 11 = .ok (.ldc2_w 208, 3) := dk_20 0 208 (dk_at dksX0_set_0 11 rfl rfl)
theorem dX0_set_14 : decode cX0_set 14 = .ok (.invokestatic 136, 3) := dk_184 0 136 (dk_at dksX0_set_0 14 rfl rfl)
theorem dX0_set_17 : decode cX0_set 17 = .ok (.ifCond .eq 45, 3) := dk_153 0 45 (dk_at dksX0_set_0 17 rfl rfl)
theorem dX0_set_20 : decode cX0_set 20 = .ok (.iload_n 3, 1) := dk_29 (dk_at dksX0_set_0 20 rfl rfl)
theorem dX0_set_21 : decode cX0_set 21 = .ok (.i2l, 1) := dk_133 (dk_at dksX0_set_0 21 rfl rfl)
theorem dX0_set_22 : decode cX0_set 22 = .ok (.lconst 0, 1) := dk_9 (dk_at dksX0_set_0 22 rfl rfl)
theorem dX0_set_23 : decode cX0_set 23 = .ok (.iload_n 2, 1) := dk_28 (dk_at dksX0_set_0 23 rfl rfl)
theorem dX0_set_24 : decode cX0_set 24 = .ok (.ifCond .ne 9, 3) := dk_154 0 9 (dk_at dksX0_set_1 0 rfl rfl)
theorem dX0_set_27 : decode cX0_set 27 = .ok (.ldc2_w 208, 3) := dk_20 0 208 (dk_at dksX0_set_1 3 rfl rfl)
theorem dX0_set_30 : decode cX0_set 30 = .ok (.goto 26, 3) := dk_167 0 26 (dk_at dksX0_set_1 6 rfl rfl)
theorem dX0_set_33 : decode cX0_set 33 = .ok (.iload_n 2, 1) := dk_28 (dk_at dksX0_set_1 9 rfl rfl)
theorem dX0_set_34 : decode cX0_set 34 = .ok (.iconst 1, 1) := dk_4 (dk_at dksX0_set_1 10 rfl rfl)
theorem dX0_set_35 : decode cX0_set 35 = .ok (.if_icmp .ne 7, 3) := dk_160 0 7 (dk_at dksX0_set_1 11 rfl rfl)
theorem dX0_set_38 : decode cX0_set 38 = .ok (.lconst 1, 1) := dk_10 (dk_at dksX0_set_1 14 rfl rfl)
theorem dX0_set_39 : decode cX0_set 39 = .ok (.goto 17, 3) := dk_167 0 17 (dk_at dksX0_set_1 15 rfl rfl)
theorem dX0_set_42 : decode cX0_set 42 = .ok (.iload_n 2, 1) := dk_28 (dk_at dksX0_set_1 18 rfl rfl)
theorem dX0_set_43 : decode cX0_set 43 = .ok (.iconst 2, 1) := dk_5 (dk_at dksX0_set_1 19 rfl rfl)
theorem dX0_set_44 : decode cX0_set 44 = .ok (.if_icmp .ne 9, 3) := dk_160 0 9 (dk_at dksX0_set_1 20 rfl rfl)
theorem dX0_set_47 : decode cX0_set 47 = .ok (.ldc2_w 219, 3) := dk_20 0 219 (dk_at dksX0_set_2 0 rfl rfl)
theorem dX0_set_50 : decode cX0_set 50 = .ok (.goto 6, 3) := dk_167 0 6 (dk_at dksX0_set_2 3 rfl rfl)
theorem dX0_set_53 : decode cX0_set 53 = .ok (.ldc2_w 219, 3) := dk_20 0 219 (dk_at dksX0_set_2 6 rfl rfl)
theorem dX0_set_56 : decode cX0_set 56 = .ok (.invokestatic 136, 3) := dk_184 0 136 (dk_at dksX0_set_2 9 rfl rfl)
theorem dX0_set_59 : decode cX0_set 59 = .ok (.ifCond .ne 5, 3) := dk_154 0 5 (dk_at dksX0_set_2 12 rfl rfl)
theorem dX0_set_62 : decode cX0_set 62 = .ok (.iconst (-1), 1) := dk_2 (dk_at dksX0_set_2 15 rfl rfl)
theorem dX0_set_63 : decode cX0_set 63 = .ok (.ireturn, 1) := dk_172 (dk_at dksX0_set_2 16 rfl rfl)
theorem dX0_set_64 : decode cX0_set 64 = .ok (.aload_n 0, 1) := dk_42 (dk_at dksX0_set_2 17 rfl rfl)
theorem dX0_set_65 : decode cX0_set 65 = .ok (.getfield 107, 3) := dk_180 0 107 (dk_at dksX0_set_2 18 rfl rfl)
theorem dX0_set_68 : decode cX0_set 68 = .ok (.iload_n 1, 1) := dk_27 (dk_at dksX0_set_2 21 rfl rfl)
theorem dX0_set_69 : decode cX0_set 69 = .ok (.iload_n 2, 1) := dk_28 (dk_at dksX0_set_2 22 rfl rfl)
theorem dX0_set_70 : decode cX0_set 70 = .ok (.invokevirtual 64, 3) := dk_182 0 64 (dk_at dksX0_set_3 0 rfl rfl)
theorem dX0_set_73 : decode cX0_set 73 = .ok (.istore 4, 2) := dk_54 4 (dk_at dksX0_set_3 3 rfl rfl)
theorem dX0_set_75 : decode cX0_set 75 = .ok (.aload_n 0, 1) := dk_42 (dk_at dksX0_set_3 5 rfl rfl)
theorem dX0_set_76 : decode cX0_set 76 = .ok (.getfield 107, 3) := dk_180 0 107 (dk_at dksX0_set_3 6 rfl rfl)
theorem dX0_set_79 : decode cX0_set 79 = .ok (.getfield 221, 3) := dk_180 0 221 (dk_at dksX0_set_3 9 rfl rfl)
theorem dX0_set_82 : decode cX0_set 82 = .ok (.iconst 4, 1) := dk_7 (dk_at dksX0_set_3 12 rfl rfl)
theorem dX0_set_83 : decode cX0_set 83 = .ok (.iload_n 1, 1) := dk_27 (dk_at dksX0_set_3 13 rfl rfl)
theorem dX0_set_84 : decode cX0_set 84 = .ok (.imul, 1) := dk_104 (dk_at dksX0_set_3 14 rfl rfl)
theorem dX0_set_85 : decode cX0_set 85 = .ok (.iload_n 2, 1) := dk_28 (dk_at dksX0_set_3 15 rfl rfl)
theorem dX0_set_86 : decode cX0_set 86 = .ok (.iadd, 1) := dk_96 (dk_at dksX0_set_3 16 rfl rfl)
theorem dX0_set_87 : decode cX0_set 87 = .ok (.iload_n 3, 1) := dk_29 (dk_at dksX0_set_3 17 rfl rfl)
theorem dX0_set_88 : decode cX0_set 88 = .ok (.i2b, 1) := dk_145 (dk_at dksX0_set_3 18 rfl rfl)
theorem dX0_set_89 : decode cX0_set 89 = .ok (.bastore, 1) := dk_84 (dk_at dksX0_set_3 19 rfl rfl)
theorem dX0_set_90 : decode cX0_set 90 = .ok (.iload 4, 2) := dk_21 4 (dk_at dksX0_set_3 20 rfl rfl)
theorem dX0_set_92 : decode cX0_set 92 = .ok (.ireturn, 1) := dk_172 (dk_at dksX0_set_3 22 rfl rfl)
def dkwX0_home_1 : List UInt8 := [172]
abbrev dktX0_home_1 : List UInt8 := dkwX0_home_1 ++ []
def dkwX0_home_0 : List UInt8 := [42, 27, 182, 0, 205, 154, 0, 5, 2, 172, 42, 42, 180, 0, 107, 182, 0, 224, 42, 180, 0, 54, 27, 46]
abbrev dktX0_home_0 : List UInt8 := dkwX0_home_0 ++ dktX0_home_1
theorem dksX0_home_0 : cX0_home.data.toList.drop 0 = dktX0_home_0 := by decide +kernel
theorem dksX0_home_1 : cX0_home.data.toList.drop 24 = dktX0_home_1 := dk_seg dksX0_home_0 24 rfl rfl
theorem dX0_home_0 : decode cX0_home 0 = .ok (.aload_n 0, 1) := dk_42 (dk_at dksX0_home_0 0 rfl rfl)
theorem dX0_home_1 : decode cX0_home 1 = .ok (.iload_n 1, 1) := dk_27 (dk_at dksX0_home_0 1 rfl rfl)
theorem dX0_home_2 : decode cX0_home 2 = .ok (.invokevirtual 205, 3) := dk_182 0 205 (dk_at dksX0_home_0 2 rfl rfl)
theorem dX0_home_5 : decode cX0_home 5 = .ok (.ifCond .ne 5, 3) := dk_154 0 5 (dk_at dksX0_home_0 5 rfl rfl)
theorem dX0_home_8 : decode cX0_home 8 = .ok (.iconst (-1), 1) := dk_2 (dk_at dksX0_home_0 8 rfl rfl)
theorem dX0_home_9 : decode cX0_home 9 = .ok (.ireturn, 1) := dk_172 (dk_at dksX0_home_0 9 rfl rfl)
theorem dX0_home_10 : decode cX0_home 10 = .ok (.aload_n 0, 1) := dk_42 (dk_at dksX0_home_0 10 rfl rfl)
theorem dX0_home_11 : decode cX0_home 11 = .ok (.aload_n 0, 1) := dk_42 (dk_at dksX0_home_0 11 rfl rfl)
theorem dX0_home_12 : decode cX0_home 12 = .ok (.getfield 107, 3) := dk_180 0 107 (dk_at dksX0_home_0 12 rfl rfl)
theorem dX0_home_15 : decode cX0_home 15 = .ok (.invokevirtual 224, 3) := dk_182 0 224 (dk_at dksX0_home_0 15 rfl rfl)
theorem dX0_home_18 : decode cX0_home 18 = .ok (.aload_n 0, 1) := dk_42 (dk_at dksX0_home_0 18 rfl rfl)
theorem dX0_home_19 : decode cX0_home 19 = .ok (.getfield 54, 3) := dk_180 0 54 (dk_at dksX0_home_0 19 rfl rfl)
theorem dX0_home_22 : decode cX0_home 22 = .ok (.iload_n 1, 1) := dk_27 (dk_at dksX0_home_0 22 rfl rfl)
theorem dX0_home_23 : decode cX0_home 23 = .ok (.iaload, 1) := dk_46 (dk_at dksX0_home_0 23 rfl rfl)
theorem dX0_home_24 : decode cX0_home 24 = .ok (.ireturn, 1) := dk_172 (dk_at dksX0_home_1 0 rfl rfl)
def dkwX0_runs_6 : List UInt8 := [145, 84, 132, 3, 1, 167, 255, 228, 132, 2, 1, 167, 255, 161, 177]
abbrev dktX0_runs_6 : List UInt8 := dkwX0_runs_6 ++ []
def dkwX0_runs_5 : List UInt8 := [62, 29, 43, 180, 0, 15, 162, 0, 26, 42, 180, 0, 87, 7, 28, 104, 29, 96, 42, 180, 0, 20, 29, 46]
abbrev dktX0_runs_5 : List UInt8 := dkwX0_runs_5 ++ dktX0_runs_6
def dkwX0_runs_4 : List UInt8 := [180, 0, 54, 29, 46, 16, 252, 160, 0, 10, 42, 43, 29, 28, 182, 0, 83, 132, 3, 1, 167, 255, 208, 3]
abbrev dktX0_runs_4 : List UInt8 := dkwX0_runs_4 ++ dktX0_runs_5
def dkwX0_runs_3 : List UInt8 := [162, 0, 46, 42, 180, 0, 41, 16, 252, 160, 0, 37, 28, 43, 29, 5, 182, 0, 64, 161, 0, 21, 42]
abbrev dktX0_runs_3 : List UInt8 := dkwX0_runs_3 ++ dktX0_runs_4
def dkwX0_runs_2 : List UInt8 := [28, 3, 84, 132, 2, 1, 167, 255, 225, 3, 61, 28, 16, 120, 162, 0, 95, 3, 62, 29, 43, 180, 0, 15]
abbrev dktX0_runs_2 : List UInt8 := dkwX0_runs_2 ++ dktX0_runs_3
def dkwX0_runs_1 : List UInt8 := [7, 162, 0, 32, 42, 180, 0, 20, 28, 16, 252, 79, 42, 180, 0, 54, 28, 16, 252, 79, 42, 180, 0, 28]
abbrev dktX0_runs_1 : List UInt8 := dkwX0_runs_1 ++ dktX0_runs_2
def dkwX0_runs_0 : List UInt8 := [42, 16, 252, 181, 0, 41, 42, 3, 181, 0, 76, 42, 3, 181, 0, 38, 42, 3, 181, 0, 32, 3, 61, 28]
abbrev dktX0_runs_0 : List UInt8 := dkwX0_runs_0 ++ dktX0_runs_1
theorem dksX0_runs_0 : cX0_runs.data.toList.drop 0 = dktX0_runs_0 := by decide +kernel
theorem dksX0_runs_1 : cX0_runs.data.toList.drop 24 = dktX0_runs_1 := dk_seg dksX0_runs_0 24 rfl rfl
theorem dksX0_runs_2 : cX0_runs.data.toList.drop 48 = dktX0_runs_2 := dk_seg dksX0_runs_1 24 rfl rfl
theorem dksX0_runs_3 : cX0_runs.data.toList.drop 72 = dktX0_runs_3 := dk_seg dksX0_runs_2 24 rfl rfl
theorem dksX0_runs_4 : cX0_runs.data.toList.drop 95 = dktX0_runs_4 := dk_seg dksX0_runs_3 23 rfl rfl
theorem dksX0_runs_5 : cX0_runs.data.toList.drop 119 = dktX0_runs_5 := dk_seg dksX0_runs_4 24 rfl rfl
theorem dksX0_runs_6 : cX0_runs.data.toList.drop 143 = dktX0_runs_6 := dk_seg dksX0_runs_5 24 rfl rfl
theorem dX0_runs_0 : decode cX0_runs 0 = .ok (.aload_n 0, 1) := dk_42 (dk_at dksX0_runs_0 0 rfl rfl)
theorem dX0_runs_1 : decode cX0_runs 1 = .ok (.bipush (-4), 2) := dk_16 252 (dk_at dksX0_runs_0 1 rfl rfl)
theorem dX0_runs_3 : decode cX0_runs 3 = .ok (.putfield 41, 3) := dk_181 0 41 (dk_at dksX0_runs_0 3 rfl rfl)
theorem dX0_runs_6 : decode cX0_runs 6 = .ok (.aload_n 0, 1) := dk_42 (dk_at dksX0_runs_0 6 rfl rfl)
theorem dX0_runs_7 : decode cX0_runs 7 = .ok (.iconst 0, 1) := dk_3 (dk_at dksX0_runs_0 7 rfl rfl)
theorem dX0_runs_8 : decode cX0_runs 8 = .ok (.putfield 76, 3) := dk_181 0 76 (dk_at dksX0_runs_0 8 rfl rfl)
theorem dX0_runs_11 : decode cX0_runs 11 = .ok (.aload_n 0, 1) := dk_42 (dk_at dksX0_runs_0 11 rfl rfl)
theorem dX0_runs_12 : decode cX0_runs 12 = .ok (.iconst 0, 1) := dk_3 (dk_at dksX0_runs_0 12 rfl rfl)
theorem dX0_runs_13 : decode cX0_runs 13 = .ok (.putfield 38, 3) := dk_181 0 38 (dk_at dksX0_runs_0 13 rfl rfl)
theorem dX0_runs_16 : decode cX0_runs 16 = .ok (.aload_n 0, 1) := dk_42 (dk_at dksX0_runs_0 16 rfl rfl)
theorem dX0_runs_17 : decode cX0_runs 17 = .ok (.iconst 0, 1) := dk_3 (dk_at dksX0_runs_0 17 rfl rfl)
theorem dX0_runs_18 : decode cX0_runs 18 = .ok (.putfield 32, 3) := dk_181 0 32 (dk_at dksX0_runs_0 18 rfl rfl)
theorem dX0_runs_21 : decode cX0_runs 21 = .ok (.iconst 0, 1) := dk_3 (dk_at dksX0_runs_0 21 rfl rfl)
theorem dX0_runs_22 : decode cX0_runs 22 = .ok (.istore_n 2, 1) := dk_61 (dk_at dksX0_runs_0 22 rfl rfl)
theorem dX0_runs_23 : decode cX0_runs 23 = .ok (.iload_n 2, 1) := dk_28 (dk_at dksX0_runs_0 23 rfl rfl)
theorem dX0_runs_24 : decode cX0_runs 24 = .ok (.iconst 4, 1) := dk_7 (dk_at dksX0_runs_1 0 rfl rfl)
theorem dX0_runs_25 : decode cX0_runs 25 = .ok (.if_icmp .ge 32, 3) := dk_162 0 32 (dk_at dksX0_runs_1 1 rfl rfl)
theorem dX0_runs_28 : decode cX0_runs 28 = .ok (.aload_n 0, 1) := dk_42 (dk_at dksX0_runs_1 4 rfl rfl)
theorem dX0_runs_29 : decode cX0_runs 29 = .ok (.getfield 20, 3) := dk_180 0 20 (dk_at dksX0_runs_1 5 rfl rfl)
theorem dX0_runs_32 : decode cX0_runs 32 = .ok (.iload_n 2, 1) := dk_28 (dk_at dksX0_runs_1 8 rfl rfl)
theorem dX0_runs_33 : decode cX0_runs 33 = .ok (.bipush (-4), 2) := dk_16 252 (dk_at dksX0_runs_1 9 rfl rfl)
theorem dX0_runs_35 : decode cX0_runs 35 = .ok (.iastore, 1) := dk_79 (dk_at dksX0_runs_1 11 rfl rfl)
theorem dX0_runs_36 : decode cX0_runs 36 = .ok (.aload_n 0, 1) := dk_42 (dk_at dksX0_runs_1 12 rfl rfl)
theorem dX0_runs_37 : decode cX0_runs 37 = .ok (.getfield 54, 3) := dk_180 0 54 (dk_at dksX0_runs_1 13 rfl rfl)
theorem dX0_runs_40 : decode cX0_runs 40 = .ok (.iload_n 2, 1) := dk_28 (dk_at dksX0_runs_1 16 rfl rfl)
theorem dX0_runs_41 : decode cX0_runs 41 = .ok (.bipush (-4), 2) := dk_16 252 (dk_at dksX0_runs_1 17 rfl rfl)
theorem dX0_runs_43 : decode cX0_runs 43 = .ok (.iastore, 1) := dk_79 (dk_at dksX0_runs_1 19 rfl rfl)
theorem dX0_runs_44 : decode cX0_runs 44 = .ok (.aload_n 0, 1) := dk_42 (dk_at dksX0_runs_1 20 rfl rfl)
theorem dX0_runs_45 : decode cX0_runs 45 = .ok (.getfield 28, 3) := dk_180 0 28 (dk_at dksX0_runs_1 21 rfl rfl)
theorem dX0_runs_48 : decode cX0_runs 48 = .ok (.iload_n 2, 1) := dk_28 (dk_at dksX0_runs_2 0 rfl rfl)
theorem dX0_runs_49 : decode cX0_runs 49 = .ok (.iconst 0, 1) := dk_3 (dk_at dksX0_runs_2 1 rfl rfl)
theorem dX0_runs_50 : decode cX0_runs 50 = .ok (.bastore, 1) := dk_84 (dk_at dksX0_runs_2 2 rfl rfl)
theorem dX0_runs_51 : decode cX0_runs 51 = .ok (.iinc 2 1, 3) := dk_132 2 1 (dk_at dksX0_runs_2 3 rfl rfl)
theorem dX0_runs_54 : decode cX0_runs 54 = .ok (.goto (-31), 3) := dk_167 255 225 (dk_at dksX0_runs_2 6 rfl rfl)
theorem dX0_runs_57 : decode cX0_runs 57 = .ok (.iconst 0, 1) := dk_3 (dk_at dksX0_runs_2 9 rfl rfl)
theorem dX0_runs_58 : decode cX0_runs 58 = .ok (.istore_n 2, 1) := dk_61 (dk_at dksX0_runs_2 10 rfl rfl)
theorem dX0_runs_59 : decode cX0_runs 59 = .ok (.iload_n 2, 1) := dk_28 (dk_at dksX0_runs_2 11 rfl rfl)
theorem dX0_runs_60 : decode cX0_runs 60 = .ok (.bipush 120, 2) := dk_16 120 (dk_at dksX0_runs_2 12 rfl rfl)
theorem dX0_runs_62 : decode cX0_runs 62 = .ok (.if_icmp .ge 95, 3) := dk_162 0 95 (dk_at dksX0_runs_2 14 rfl rfl)
theorem dX0_runs_65 : decode cX0_runs 65 = .ok (.iconst 0, 1) := dk_3 (dk_at dksX0_runs_2 17 rfl rfl)
theorem dX0_runs_66 : decode cX0_runs 66 = .ok (.istore_n 3, 1) := dk_62 (dk_at dksX0_runs_2 18 rfl rfl)
theorem dX0_runs_67 : decode cX0_runs 67 = .ok (.iload_n 3, 1) := dk_29 (dk_at dksX0_runs_2 19 rfl rfl)
theorem dX0_runs_68 : decode cX0_runs 68 = .ok (.aload_n 1, 1) := dk_43 (dk_at dksX0_runs_2 20 rfl rfl)
theorem dX0_runs_69 : decode cX0_runs 69 = .ok (.getfield 15, 3) := dk_180 0 15 (dk_at dksX0_runs_2 21 rfl rfl)
theorem dX0_runs_72 : decode cX0_runs 72 = .ok (.if_icmp .ge 46, 3) := dk_162 0 46 (dk_at dksX0_runs_3 0 rfl rfl)
theorem dX0_runs_75 : decode cX0_runs 75 = .ok (.aload_n 0, 1) := dk_42 (dk_at dksX0_runs_3 3 rfl rfl)
theorem dX0_runs_76 : decode cX0_runs 76 = .ok (.getfield 41, 3) := dk_180 0 41 (dk_at dksX0_runs_3 4 rfl rfl)
theorem dX0_runs_79 : decode cX0_runs 79 = .ok (.bipush (-4), 2) := dk_16 252 (dk_at dksX0_runs_3 7 rfl rfl)
theorem dX0_runs_81 : decode cX0_runs 81 = .ok (.if_icmp .ne 37, 3) := dk_160 0 37 (dk_at dksX0_runs_3 9 rfl rfl)
theorem dX0_runs_84 : decode cX0_runs 84 = .ok (.iload_n 2, 1) := dk_28 (dk_at dksX0_runs_3 12 rfl rfl)
theorem dX0_runs_85 : decode cX0_runs 85 = .ok (.aload_n 1, 1) := dk_43 (dk_at dksX0_runs_3 13 rfl rfl)
theorem dX0_runs_86 : decode cX0_runs 86 = .ok (.iload_n 3, 1) := dk_29 (dk_at dksX0_runs_3 14 rfl rfl)
theorem dX0_runs_87 : decode cX0_runs 87 = .ok (.iconst 2, 1) := dk_5 (dk_at dksX0_runs_3 15 rfl rfl)
theorem dX0_runs_88 : decode cX0_runs 88 = .ok (.invokevirtual 64, 3) := dk_182 0 64 (dk_at dksX0_runs_3 16 rfl rfl)
theorem dX0_runs_91 : decode cX0_runs 91 = .ok (.if_icmp .lt 21, 3) := dk_161 0 21 (dk_at dksX0_runs_3 19 rfl rfl)
theorem dX0_runs_94 : decode cX0_runs 94 = .ok (.aload_n 0, 1) := dk_42 (dk_at dksX0_runs_3 22 rfl rfl)
theorem dX0_runs_95 : decode cX0_runs 95 = .ok (.getfield 54, 3) := dk_180 0 54 (dk_at dksX0_runs_4 0 rfl rfl)
theorem dX0_runs_98 : decode cX0_runs 98 = .ok (.iload_n 3, 1) := dk_29 (dk_at dksX0_runs_4 3 rfl rfl)
theorem dX0_runs_99 : decode cX0_runs 99 = .ok (.iaload, 1) := dk_46 (dk_at dksX0_runs_4 4 rfl rfl)
theorem dX0_runs_100 : decode cX0_runs 100 = .ok (.bipush (-4), 2) := dk_16 252 (dk_at dksX0_runs_4 5 rfl rfl)
theorem dX0_runs_102 : decode cX0_runs 102 = .ok (.if_icmp .ne 10, 3) := dk_160 0 10 (dk_at dksX0_runs_4 7 rfl rfl)
theorem dX0_runs_105 : decode cX0_runs 105 = .ok (.aload_n 0, 1) := dk_42 (dk_at dksX0_runs_4 10 rfl rfl)
theorem dX0_runs_106 : decode cX0_runs 106 = .ok (.aload_n 1, 1) := dk_43 (dk_at dksX0_runs_4 11 rfl rfl)
theorem dX0_runs_107 : decode cX0_runs 107 = .ok (.iload_n 3, 1) := dk_29 (dk_at dksX0_runs_4 12 rfl rfl)
theorem dX0_runs_108 : decode cX0_runs 108 = .ok (.iload_n 2, 1) := dk_28 (dk_at dksX0_runs_4 13 rfl rfl)
theorem dX0_runs_109 : decode cX0_runs 109 = .ok (.invokevirtual 83, 3) := dk_182 0 83 (dk_at dksX0_runs_4 14 rfl rfl)
theorem dX0_runs_112 : decode cX0_runs 112 = .ok (.iinc 3 1, 3) := dk_132 3 1 (dk_at dksX0_runs_4 17 rfl rfl)
theorem dX0_runs_115 : decode cX0_runs 115 = .ok (.goto (-48), 3) := dk_167 255 208 (dk_at dksX0_runs_4 20 rfl rfl)
theorem dX0_runs_118 : decode cX0_runs 118 = .ok (.iconst 0, 1) := dk_3 (dk_at dksX0_runs_4 23 rfl rfl)
theorem dX0_runs_119 : decode cX0_runs 119 = .ok (.istore_n 3, 1) := dk_62 (dk_at dksX0_runs_5 0 rfl rfl)
theorem dX0_runs_120 : decode cX0_runs 120 = .ok (.iload_n 3, 1) := dk_29 (dk_at dksX0_runs_5 1 rfl rfl)
theorem dX0_runs_121 : decode cX0_runs 121 = .ok (.aload_n 1, 1) := dk_43 (dk_at dksX0_runs_5 2 rfl rfl)
theorem dX0_runs_122 : decode cX0_runs 122 = .ok (.getfield 15, 3) := dk_180 0 15 (dk_at dksX0_runs_5 3 rfl rfl)
theorem dX0_runs_125 : decode cX0_runs 125 = .ok (.if_icmp .ge 26, 3) := dk_162 0 26 (dk_at dksX0_runs_5 6 rfl rfl)
theorem dX0_runs_128 : decode cX0_runs 128 = .ok (.aload_n 0, 1) := dk_42 (dk_at dksX0_runs_5 9 rfl rfl)
theorem dX0_runs_129 : decode cX0_runs 129 = .ok (.getfield 87, 3) := dk_180 0 87 (dk_at dksX0_runs_5 10 rfl rfl)
theorem dX0_runs_132 : decode cX0_runs 132 = .ok (.iconst 4, 1) := dk_7 (dk_at dksX0_runs_5 13 rfl rfl)
theorem dX0_runs_133 : decode cX0_runs 133 = .ok (.iload_n 2, 1) := dk_28 (dk_at dksX0_runs_5 14 rfl rfl)
theorem dX0_runs_134 : decode cX0_runs 134 = .ok (.imul, 1) := dk_104 (dk_at dksX0_runs_5 15 rfl rfl)
theorem dX0_runs_135 : decode cX0_runs 135 = .ok (.iload_n 3, 1) := dk_29 (dk_at dksX0_runs_5 16 rfl rfl)
theorem dX0_runs_136 : decode cX0_runs 136 = .ok (.iadd, 1) := dk_96 (dk_at dksX0_runs_5 17 rfl rfl)
theorem dX0_runs_137 : decode cX0_runs 137 = .ok (.aload_n 0, 1) := dk_42 (dk_at dksX0_runs_5 18 rfl rfl)
theorem dX0_runs_138 : decode cX0_runs 138 = .ok (.getfield 20, 3) := dk_180 0 20 (dk_at dksX0_runs_5 19 rfl rfl)
theorem dX0_runs_141 : decode cX0_runs 141 = .ok (.iload_n 3, 1) := dk_29 (dk_at dksX0_runs_5 22 rfl rfl)
theorem dX0_runs_142 : decode cX0_runs 142 = .ok (.iaload, 1) := dk_46 (dk_at dksX0_runs_5 23 rfl rfl)
theorem dX0_runs_143 : decode cX0_runs 143 = .ok (.i2b, 1) := dk_145 (dk_at dksX0_runs_6 0 rfl rfl)
theorem dX0_runs_144 : decode cX0_runs 144 = .ok (.bastore, 1) := dk_84 (dk_at dksX0_runs_6 1 rfl rfl)
theorem dX0_runs_145 : decode cX0_runs 145 = .ok (.iinc 3 1, 3) := dk_132 3 1 (dk_at dksX0_runs_6 2 rfl rfl)
theorem dX0_runs_148 : decode cX0_runs 148 = .ok (.goto (-28), 3) := dk_167 255 228 (dk_at dksX0_runs_6 5 rfl rfl)
theorem dX0_runs_151 : decode cX0_runs 151 = .ok (.iinc 2 1, 3) := dk_132 2 1 (dk_at dksX0_runs_6 8 rfl rfl)
theorem dX0_runs_154 : decode cX0_runs 154 = .ok (.goto (-95), 3) := dk_167 255 161 (dk_at dksX0_runs_6 11 rfl rfl)
theorem dX0_runs_157 : decode cX0_runs 157 = .ok (.return_, 1) := dk_177 (dk_at dksX0_runs_6 14 rfl rfl)
def dkwX0_steps_5 : List UInt8 := [182, 0, 79, 177]
abbrev dktX0_steps_5 : List UInt8 := dkwX0_steps_5 ++ []
def dkwX0_steps_4 : List UInt8 := [92, 46, 4, 100, 79, 42, 89, 180, 0, 76, 4, 96, 181, 0, 76, 167, 0, 12, 42, 43, 28, 21, 4, 29]
abbrev dktX0_steps_4 : List UInt8 := dkwX0_steps_4 ++ dktX0_steps_5
def dkwX0_steps_3 : List UInt8 := [180, 0, 67, 21, 4, 51, 182, 0, 70, 79, 42, 180, 0, 57, 28, 46, 158, 0, 26, 42, 180, 0, 57, 28]
abbrev dktX0_steps_3 : List UInt8 := dkwX0_steps_3 ++ dktX0_steps_4
def dkwX0_steps_2 : List UInt8 := [180, 0, 28, 28, 4, 84, 42, 180, 0, 57, 28, 42, 180, 0, 60, 43, 28, 3, 182, 0, 64, 50, 43]
abbrev dktX0_steps_2 : List UInt8 := dkwX0_steps_2 ++ dktX0_steps_3
def dkwX0_steps_1 : List UInt8 := [28, 16, 252, 79, 42, 180, 0, 54, 28, 29, 79, 177, 42, 180, 0, 28, 28, 51, 154, 0, 37, 42]
abbrev dktX0_steps_1 : List UInt8 := dkwX0_steps_1 ++ dktX0_steps_2
def dkwX0_steps_0 : List UInt8 := [43, 28, 42, 180, 0, 20, 28, 46, 182, 0, 50, 54, 4, 21, 4, 16, 252, 160, 0, 19, 42, 180, 0, 20]
abbrev dktX0_steps_0 : List UInt8 := dkwX0_steps_0 ++ dktX0_steps_1
theorem dksX0_steps_0 : cX0_steps.data.toList.drop 0 = dktX0_steps_0 := by decide +kernel
theorem dksX0_steps_1 : cX0_steps.data.toList.drop 24 = dktX0_steps_1 := dk_seg dksX0_steps_0 24 rfl rfl
theorem dksX0_steps_2 : cX0_steps.data.toList.drop 46 = dktX0_steps_2 := dk_seg dksX0_steps_1 22 rfl rfl
theorem dksX0_steps_3 : cX0_steps.data.toList.drop 69 = dktX0_steps_3 := dk_seg dksX0_steps_2 23 rfl rfl
theorem dksX0_steps_4 : cX0_steps.data.toList.drop 93 = dktX0_steps_4 := dk_seg dksX0_steps_3 24 rfl rfl
theorem dksX0_steps_5 : cX0_steps.data.toList.drop 117 = dktX0_steps_5 := dk_seg dksX0_steps_4 24 rfl rfl
theorem dX0_steps_0 : decode cX0_steps 0 = .ok (.aload_n 1, 1) := dk_43 (dk_at dksX0_steps_0 0 rfl rfl)
theorem dX0_steps_1 : decode cX0_steps 1 = .ok (.iload_n 2, 1) := dk_28 (dk_at dksX0_steps_0 1 rfl rfl)
theorem dX0_steps_2 : decode cX0_steps 2 = .ok (.aload_n 0, 1) := dk_42 (dk_at dksX0_steps_0 2 rfl rfl)
theorem dX0_steps_3 : decode cX0_steps 3 = .ok (.getfield 20, 3) := dk_180 0 20 (dk_at dksX0_steps_0 3 rfl rfl)
theorem dX0_steps_6 : decode cX0_steps 6 = .ok (.iload_n 2, 1) := dk_28 (dk_at dksX0_steps_0 6 rfl rfl)
theorem dX0_steps_7 : decode cX0_steps 7 = .ok (.iaload, 1) := dk_46 (dk_at dksX0_steps_0 7 rfl rfl)
theorem dX0_steps_8 : decode cX0_steps 8 = .ok (.invokevirtual 50, 3) := dk_182 0 50 (dk_at dksX0_steps_0 8 rfl rfl)
theorem dX0_steps_11 : decode cX0_steps 11 = .ok (.istore 4, 2) := dk_54 4 (dk_at dksX0_steps_0 11 rfl rfl)
theorem dX0_steps_13 : decode cX0_steps 13 = .ok (.iload 4, 2) := dk_21 4 (dk_at dksX0_steps_0 13 rfl rfl)
theorem dX0_steps_15 : decode cX0_steps 15 = .ok (.bipush (-4), 2) := dk_16 252 (dk_at dksX0_steps_0 15 rfl rfl)
theorem dX0_steps_17 : decode cX0_steps 17 = .ok (.if_icmp .ne 19, 3) := dk_160 0 19 (dk_at dksX0_steps_0 17 rfl rfl)
theorem dX0_steps_20 : decode cX0_steps 20 = .ok (.aload_n 0, 1) := dk_42 (dk_at dksX0_steps_0 20 rfl rfl)
theorem dX0_steps_21 : decode cX0_steps 21 = .ok (.getfield 20, 3) := dk_180 0 20 (dk_at dksX0_steps_0 21 rfl rfl)
theorem dX0_steps_24 : decode cX0_steps 24 = .ok (.iload_n 2, 1) := dk_28 (dk_at dksX0_steps_1 0 rfl rfl)
theorem dX0_steps_25 : decode cX0_steps 25 = .ok (.bipush (-4), 2) := dk_16 252 (dk_at dksX0_steps_1 1 rfl rfl)
theorem dX0_steps_27 : decode cX0_steps 27 = .ok (.iastore, 1) := dk_79 (dk_at dksX0_steps_1 3 rfl rfl)
theorem dX0_steps_28 : decode cX0_steps 28 = .ok (.aload_n 0, 1) := dk_42 (dk_at dksX0_steps_1 4 rfl rfl)
theorem dX0_steps_29 : decode cX0_steps 29 = .ok (.getfield 54, 3) := dk_180 0 54 (dk_at dksX0_steps_1 5 rfl rfl)
theorem dX0_steps_32 : decode cX0_steps 32 = .ok (.iload_n 2, 1) := dk_28 (dk_at dksX0_steps_1 8 rfl rfl)
theorem dX0_steps_33 : decode cX0_steps 33 = .ok (.iload_n 3, 1) := dk_29 (dk_at dksX0_steps_1 9 rfl rfl)
theorem dX0_steps_34 : decode cX0_steps 34 = .ok (.iastore, 1) := dk_79 (dk_at dksX0_steps_1 10 rfl rfl)
theorem dX0_steps_35 : decode cX0_steps 35 = .ok (.return_, 1) := dk_177 (dk_at dksX0_steps_1 11 rfl rfl)
theorem dX0_steps_36 : decode cX0_steps 36 = .ok (.aload_n 0, 1) := dk_42 (dk_at dksX0_steps_1 12 rfl rfl)
theorem dX0_steps_37 : decode cX0_steps 37 = .ok (.getfield 28, 3) := dk_180 0 28 (dk_at dksX0_steps_1 13 rfl rfl)
theorem dX0_steps_40 : decode cX0_steps 40 = .ok (.iload_n 2, 1) := dk_28 (dk_at dksX0_steps_1 16 rfl rfl)
theorem dX0_steps_41 : decode cX0_steps 41 = .ok (.baload, 1) := dk_51 (dk_at dksX0_steps_1 17 rfl rfl)
theorem dX0_steps_42 : decode cX0_steps 42 = .ok (.ifCond .ne 37, 3) := dk_154 0 37 (dk_at dksX0_steps_1 18 rfl rfl)
theorem dX0_steps_45 : decode cX0_steps 45 = .ok (.aload_n 0, 1) := dk_42 (dk_at dksX0_steps_1 21 rfl rfl)
theorem dX0_steps_46 : decode cX0_steps 46 = .ok (.getfield 28, 3) := dk_180 0 28 (dk_at dksX0_steps_2 0 rfl rfl)
theorem dX0_steps_49 : decode cX0_steps 49 = .ok (.iload_n 2, 1) := dk_28 (dk_at dksX0_steps_2 3 rfl rfl)
theorem dX0_steps_50 : decode cX0_steps 50 = .ok (.iconst 1, 1) := dk_4 (dk_at dksX0_steps_2 4 rfl rfl)
theorem dX0_steps_51 : decode cX0_steps 51 = .ok (.bastore, 1) := dk_84 (dk_at dksX0_steps_2 5 rfl rfl)
theorem dX0_steps_52 : decode cX0_steps 52 = .ok (.aload_n 0, 1) := dk_42 (dk_at dksX0_steps_2 6 rfl rfl)
theorem dX0_steps_53 : decode cX0_steps 53 = .ok (.getfield 57, 3) := dk_180 0 57 (dk_at dksX0_steps_2 7 rfl rfl)
theorem dX0_steps_56 : decode cX0_steps 56 = .ok (.iload_n 2, 1) := dk_28 (dk_at dksX0_steps_2 10 rfl rfl)
theorem dX0_steps_57 : decode cX0_steps 57 = .ok (.aload_n 0, 1) := dk_42 (dk_at dksX0_steps_2 11 rfl rfl)
theorem dX0_steps_58 : decode cX0_steps 58 = .ok (.getfield 60, 3) := dk_180 0 60 (dk_at dksX0_steps_2 12 rfl rfl)
theorem dX0_steps_61 : decode cX0_steps 61 = .ok (.aload_n 1, 1) := dk_43 (dk_at dksX0_steps_2 15 rfl rfl)
theorem dX0_steps_62 : decode cX0_steps 62 = .ok (.iload_n 2, 1) := dk_28 (dk_at dksX0_steps_2 16 rfl rfl)
theorem dX0_steps_63 : decode cX0_steps 63 = .ok (.iconst 0, 1) := dk_3 (dk_at dksX0_steps_2 17 rfl rfl)
theorem dX0_steps_64 : decode cX0_steps 64 = .ok (.invokevirtual 64, 3) := dk_182 0 64 (dk_at dksX0_steps_2 18 rfl rfl)
theorem dX0_steps_67 : decode cX0_steps 67 = .ok (.aaload, 1) := dk_50 (dk_at dksX0_steps_2 21 rfl rfl)
theorem dX0_steps_68 : decode cX0_steps 68 = .ok (.aload_n 1, 1) := dk_43 (dk_at dksX0_steps_2 22 rfl rfl)
theorem dX0_steps_69 : decode cX0_steps 69 = .ok (.getfield 67, 3) := dk_180 0 67 (dk_at dksX0_steps_3 0 rfl rfl)
theorem dX0_steps_72 : decode cX0_steps 72 = .ok (.iload 4, 2) := dk_21 4 (dk_at dksX0_steps_3 3 rfl rfl)
theorem dX0_steps_74 : decode cX0_steps 74 = .ok (.baload, 1) := dk_51 (dk_at dksX0_steps_3 5 rfl rfl)
theorem dX0_steps_75 : decode cX0_steps 75 = .ok (.invokevirtual 70, 3) := dk_182 0 70 (dk_at dksX0_steps_3 6 rfl rfl)
theorem dX0_steps_78 : decode cX0_steps 78 = .ok (.iastore, 1) := dk_79 (dk_at dksX0_steps_3 9 rfl rfl)
theorem dX0_steps_79 : decode cX0_steps 79 = .ok (.aload_n 0, 1) := dk_42 (dk_at dksX0_steps_3 10 rfl rfl)
theorem dX0_steps_80 : decode cX0_steps 80 = .ok (.getfield 57, 3) := dk_180 0 57 (dk_at dksX0_steps_3 11 rfl rfl)
theorem dX0_steps_83 : decode cX0_steps 83 = .ok (.iload_n 2, 1) := dk_28 (dk_at dksX0_steps_3 14 rfl rfl)
theorem dX0_steps_84 : decode cX0_steps 84 = .ok (.iaload, 1) := dk_46 (dk_at dksX0_steps_3 15 rfl rfl)
theorem dX0_steps_85 : decode cX0_steps 85 = .ok (.ifCond .le 26, 3) := dk_158 0 26 (dk_at dksX0_steps_3 16 rfl rfl)
theorem dX0_steps_88 : decode cX0_steps 88 = .ok (.aload_n 0, 1) := dk_42 (dk_at dksX0_steps_3 19 rfl rfl)
theorem dX0_steps_89 : decode cX0_steps 89 = .ok (.getfield 57, 3) := dk_180 0 57 (dk_at dksX0_steps_3 20 rfl rfl)
theorem dX0_steps_92 : decode cX0_steps 92 = .ok (.iload_n 2, 1) := dk_28 (dk_at dksX0_steps_3 23 rfl rfl)
theorem dX0_steps_93 : decode cX0_steps 93 = .ok (.dup2, 1) := dk_92 (dk_at dksX0_steps_4 0 rfl rfl)
theorem dX0_steps_94 : decode cX0_steps 94 = .ok (.iaload, 1) := dk_46 (dk_at dksX0_steps_4 1 rfl rfl)
theorem dX0_steps_95 : decode cX0_steps 95 = .ok (.iconst 1, 1) := dk_4 (dk_at dksX0_steps_4 2 rfl rfl)
theorem dX0_steps_96 : decode cX0_steps 96 = .ok (.isub, 1) := dk_100 (dk_at dksX0_steps_4 3 rfl rfl)
theorem dX0_steps_97 : decode cX0_steps 97 = .ok (.iastore, 1) := dk_79 (dk_at dksX0_steps_4 4 rfl rfl)
theorem dX0_steps_98 : decode cX0_steps 98 = .ok (.aload_n 0, 1) := dk_42 (dk_at dksX0_steps_4 5 rfl rfl)
theorem dX0_steps_99 : decode cX0_steps 99 = .ok (.dup, 1) := dk_89 (dk_at dksX0_steps_4 6 rfl rfl)
theorem dX0_steps_100 : decode cX0_steps 100 = .ok (.getfield 76, 3) := dk_180 0 76 (dk_at dksX0_steps_4 7 rfl rfl)
theorem dX0_steps_103 : decode cX0_steps 103 = .ok (.iconst 1, 1) := dk_4 (dk_at dksX0_steps_4 10 rfl rfl)
theorem dX0_steps_104 : decode cX0_steps 104 = .ok (.iadd, 1) := dk_96 (dk_at dksX0_steps_4 11 rfl rfl)
theorem dX0_steps_105 : decode cX0_steps 105 = .ok (.putfield 76, 3) := dk_181 0 76 (dk_at dksX0_steps_4 12 rfl rfl)
theorem dX0_steps_108 : decode cX0_steps 108 = .ok (.goto 12, 3) := dk_167 0 12 (dk_at dksX0_steps_4 15 rfl rfl)
theorem dX0_steps_111 : decode cX0_steps 111 = .ok (.aload_n 0, 1) := dk_42 (dk_at dksX0_steps_4 18 rfl rfl)
theorem dX0_steps_112 : decode cX0_steps 112 = .ok (.aload_n 1, 1) := dk_43 (dk_at dksX0_steps_4 19 rfl rfl)
theorem dX0_steps_113 : decode cX0_steps 113 = .ok (.iload_n 2, 1) := dk_28 (dk_at dksX0_steps_4 20 rfl rfl)
theorem dX0_steps_114 : decode cX0_steps 114 = .ok (.iload 4, 2) := dk_21 4 (dk_at dksX0_steps_4 21 rfl rfl)
theorem dX0_steps_116 : decode cX0_steps 116 = .ok (.iload_n 3, 1) := dk_29 (dk_at dksX0_steps_4 23 rfl rfl)
theorem dX0_steps_117 : decode cX0_steps 117 = .ok (.invokevirtual 79, 3) := dk_182 0 79 (dk_at dksX0_steps_5 0 rfl rfl)
theorem dX0_steps_120 : decode cX0_steps 120 = .ok (.return_, 1) := dk_177 (dk_at dksX0_steps_5 3 rfl rfl)
def dkwX0_enters_3 : List UInt8 := [21, 4, 181, 0, 41, 42, 29, 181, 0, 44, 42, 16, 10, 28, 104, 21, 5, 96, 181, 0, 47, 177]
abbrev dktX0_enters_3 : List UInt8 := dkwX0_enters_3 ++ []
def dkwX0_enters_2 : List UInt8 := [180, 0, 35, 29, 184, 0, 11, 153, 0, 16, 42, 89, 180, 0, 38, 4, 96, 181, 0, 38, 167, 0, 25, 42]
abbrev dktX0_enters_2 : List UInt8 := dkwX0_enters_2 ++ dktX0_enters_3
def dkwX0_enters_1 : List UInt8 := [180, 0, 28, 28, 3, 84, 42, 89, 180, 0, 32, 4, 29, 120, 128, 181, 0, 32, 167, 0, 49, 43]
abbrev dktX0_enters_1 : List UInt8 := dkwX0_enters_1 ++ dktX0_enters_2
def dkwX0_enters_0 : List UInt8 := [42, 43, 29, 28, 182, 0, 24, 54, 5, 21, 5, 16, 252, 160, 0, 32, 42, 180, 0, 20, 28, 29, 79, 42]
abbrev dktX0_enters_0 : List UInt8 := dkwX0_enters_0 ++ dktX0_enters_1
theorem dksX0_enters_0 : cX0_enters.data.toList.drop 0 = dktX0_enters_0 := by decide +kernel
theorem dksX0_enters_1 : cX0_enters.data.toList.drop 24 = dktX0_enters_1 := dk_seg dksX0_enters_0 24 rfl rfl
theorem dksX0_enters_2 : cX0_enters.data.toList.drop 46 = dktX0_enters_2 := dk_seg dksX0_enters_1 22 rfl rfl
theorem dksX0_enters_3 : cX0_enters.data.toList.drop 70 = dktX0_enters_3 := dk_seg dksX0_enters_2 24 rfl rfl
theorem dX0_enters_0 : decode cX0_enters 0 = .ok (.aload_n 0, 1) := dk_42 (dk_at dksX0_enters_0 0 rfl rfl)
theorem dX0_enters_1 : decode cX0_enters 1 = .ok (.aload_n 1, 1) := dk_43 (dk_at dksX0_enters_0 1 rfl rfl)
theorem dX0_enters_2 : decode cX0_enters 2 = .ok (.iload_n 3, 1) := dk_29 (dk_at dksX0_enters_0 2 rfl rfl)
theorem dX0_enters_3 : decode cX0_enters 3 = .ok (.iload_n 2, 1) := dk_28 (dk_at dksX0_enters_0 3 rfl rfl)
theorem dX0_enters_4 : decode cX0_enters 4 = .ok (.invokevirtual 24, 3) := dk_182 0 24 (dk_at dksX0_enters_0 4 rfl rfl)
theorem dX0_enters_7 : decode cX0_enters 7 = .ok (.istore 5, 2) := dk_54 5 (dk_at dksX0_enters_0 7 rfl rfl)
theorem dX0_enters_9 : decode cX0_enters 9 = .ok (.iload 5, 2) := dk_21 5 (dk_at dksX0_enters_0 9 rfl rfl)
theorem dX0_enters_11 : decode cX0_enters 11 = .ok (.bipush (-4), 2) := dk_16 252 (dk_at dksX0_enters_0 11 rfl rfl)
theorem dX0_enters_13 : decode cX0_enters 13 = .ok (.if_icmp .ne 32, 3) := dk_160 0 32 (dk_at dksX0_enters_0 13 rfl rfl)
theorem dX0_enters_16 : decode cX0_enters 16 = .ok (.aload_n 0, 1) := dk_42 (dk_at dksX0_enters_0 16 rfl rfl)
theorem dX0_enters_17 : decode cX0_enters 17 = .ok (.getfield 20, 3) := dk_180 0 20 (dk_at dksX0_enters_0 17 rfl rfl)
theorem dX0_enters_20 : decode cX0_enters 20 = .ok (.iload_n 2, 1) := dk_28 (dk_at dksX0_enters_0 20 rfl rfl)
theorem dX0_enters_21 : decode cX0_enters 21 = .ok (.iload_n 3, 1) := dk_29 (dk_at dksX0_enters_0 21 rfl rfl)
theorem dX0_enters_22 : decode cX0_enters 22 = .ok (.iastore, 1) := dk_79 (dk_at dksX0_enters_0 22 rfl rfl)
theorem dX0_enters_23 : decode cX0_enters 23 = .ok (.aload_n 0, 1) := dk_42 (dk_at dksX0_enters_0 23 rfl rfl)
theorem dX0_enters_24 : decode cX0_enters 24 = .ok (.getfield 28, 3) := dk_180 0 28 (dk_at dksX0_enters_1 0 rfl rfl)
theorem dX0_enters_27 : decode cX0_enters 27 = .ok (.iload_n 2, 1) := dk_28 (dk_at dksX0_enters_1 3 rfl rfl)
theorem dX0_enters_28 : decode cX0_enters 28 = .ok (.iconst 0, 1) := dk_3 (dk_at dksX0_enters_1 4 rfl rfl)
theorem dX0_enters_29 : decode cX0_enters 29 = .ok (.bastore, 1) := dk_84 (dk_at dksX0_enters_1 5 rfl rfl)
theorem dX0_enters_30 : decode cX0_enters 30 = .ok (.aload_n 0, 1) := dk_42 (dk_at dksX0_enters_1 6 rfl rfl)
theorem dX0_enters_31 : decode cX0_enters 31 = .ok (.dup, 1) := dk_89 (dk_at dksX0_enters_1 7 rfl rfl)
theorem dX0_enters_32 : decode cX0_enters 32 = .ok (.getfield 32, 3) := dk_180 0 32 (dk_at dksX0_enters_1 8 rfl rfl)
theorem dX0_enters_35 : decode cX0_enters 35 = .ok (.iconst 1, 1) := dk_4 (dk_at dksX0_enters_1 11 rfl rfl)
theorem dX0_enters_36 : decode cX0_enters 36 = .ok (.iload_n 3, 1) := dk_29 (dk_at dksX0_enters_1 12 rfl rfl)
theorem dX0_enters_37 : decode cX0_enters 37 = .ok (.ishl, 1) := dk_120 (dk_at dksX0_enters_1 13 rfl rfl)
theorem dX0_enters_38 : decode cX0_enters 38 = .ok (.ior, 1) := dk_128 (dk_at dksX0_enters_1 14 rfl rfl)
theorem dX0_enters_39 : decode cX0_enters 39 = .ok (.putfield 32, 3) := dk_181 0 32 (dk_at dksX0_enters_1 15 rfl rfl)
theorem dX0_enters_42 : decode cX0_enters 42 = .ok (.goto 49, 3) := dk_167 0 49 (dk_at dksX0_enters_1 18 rfl rfl)
theorem dX0_enters_45 : decode cX0_enters 45 = .ok (.aload_n 1, 1) := dk_43 (dk_at dksX0_enters_1 21 rfl rfl)
theorem dX0_enters_46 : decode cX0_enters 46 = .ok (.getfield 35, 3) := dk_180 0 35 (dk_at dksX0_enters_2 0 rfl rfl)
theorem dX0_enters_49 : decode cX0_enters 49 = .ok (.iload_n 3, 1) := dk_29 (dk_at dksX0_enters_2 3 rfl rfl)
theorem dX0_enters_50 : decode cX0_enters 50 = .ok (.invokestatic 11, 3) := dk_184 0 11 (dk_at dksX0_enters_2 4 rfl rfl)
theorem dX0_enters_53 : decode cX0_enters 53 = .ok (.ifCond .eq 16, 3) := dk_153 0 16 (dk_at dksX0_enters_2 7 rfl rfl)
theorem dX0_enters_56 : decode cX0_enters 56 = .ok (.aload_n 0, 1) := dk_42 (dk_at dksX0_enters_2 10 rfl rfl)
theorem dX0_enters_57 : decode cX0_enters 57 = .ok (.dup, 1) := dk_89 (dk_at dksX0_enters_2 11 rfl rfl)
theorem dX0_enters_58 : decode cX0_enters 58 = .ok (.getfield 38, 3) := dk_180 0 38 (dk_at dksX0_enters_2 12 rfl rfl)
theorem dX0_enters_61 : decode cX0_enters 61 = .ok (.iconst 1, 1) := dk_4 (dk_at dksX0_enters_2 15 rfl rfl)
theorem dX0_enters_62 : decode cX0_enters 62 = .ok (.iadd, 1) := dk_96 (dk_at dksX0_enters_2 16 rfl rfl)
theorem dX0_enters_63 : decode cX0_enters 63 = .ok (.putfield 38, 3) := dk_181 0 38 (dk_at dksX0_enters_2 17 rfl rfl)
theorem dX0_enters_66 : decode cX0_enters 66 = .ok (.goto 25, 3) := dk_167 0 25 (dk_at dksX0_enters_2 20 rfl rfl)
theorem dX0_enters_69 : decode cX0_enters 69 = .ok (.aload_n 0, 1) := dk_42 (dk_at dksX0_enters_2 23 rfl rfl)
theorem dX0_enters_70 : decode cX0_enters 70 = .ok (.iload 4, 2) := dk_21 4 (dk_at dksX0_enters_3 0 rfl rfl)
theorem dX0_enters_72 : decode cX0_enters 72 = .ok (.putfield 41, 3) := dk_181 0 41 (dk_at dksX0_enters_3 2 rfl rfl)
theorem dX0_enters_75 : decode cX0_enters 75 = .ok (.aload_n 0, 1) := dk_42 (dk_at dksX0_enters_3 5 rfl rfl)
theorem dX0_enters_76 : decode cX0_enters 76 = .ok (.iload_n 3, 1) := dk_29 (dk_at dksX0_enters_3 6 rfl rfl)
theorem dX0_enters_77 : decode cX0_enters 77 = .ok (.putfield 44, 3) := dk_181 0 44 (dk_at dksX0_enters_3 7 rfl rfl)
theorem dX0_enters_80 : decode cX0_enters 80 = .ok (.aload_n 0, 1) := dk_42 (dk_at dksX0_enters_3 10 rfl rfl)
theorem dX0_enters_81 : decode cX0_enters 81 = .ok (.bipush 10, 2) := dk_16 10 (dk_at dksX0_enters_3 11 rfl rfl)
theorem dX0_enters_83 : decode cX0_enters 83 = .ok (.iload_n 2, 1) := dk_28 (dk_at dksX0_enters_3 13 rfl rfl)
theorem dX0_enters_84 : decode cX0_enters 84 = .ok (.imul, 1) := dk_104 (dk_at dksX0_enters_3 14 rfl rfl)
theorem dX0_enters_85 : decode cX0_enters 85 = .ok (.iload 5, 2) := dk_21 5 (dk_at dksX0_enters_3 15 rfl rfl)
theorem dX0_enters_87 : decode cX0_enters 87 = .ok (.iadd, 1) := dk_96 (dk_at dksX0_enters_3 17 rfl rfl)
theorem dX0_enters_88 : decode cX0_enters 88 = .ok (.putfield 47, 3) := dk_181 0 47 (dk_at dksX0_enters_3 18 rfl rfl)
theorem dX0_enters_91 : decode cX0_enters 91 = .ok (.return_, 1) := dk_177 (dk_at dksX0_enters_3 21 rfl rfl)
def dkwX0_whoIn_1 : List UInt8 := [46, 28, 160, 0, 6, 21, 4, 172, 132, 4, 1, 167, 255, 224, 16, 252, 172]
abbrev dktX0_whoIn_1 : List UInt8 := dkwX0_whoIn_1 ++ []
def dkwX0_whoIn_0 : List UInt8 := [3, 54, 4, 21, 4, 43, 180, 0, 15, 162, 0, 29, 21, 4, 29, 159, 0, 17, 42, 180, 0, 20, 21, 4]
abbrev dktX0_whoIn_0 : List UInt8 := dkwX0_whoIn_0 ++ dktX0_whoIn_1
theorem dksX0_whoIn_0 : cX0_whoIn.data.toList.drop 0 = dktX0_whoIn_0 := by decide +kernel
theorem dksX0_whoIn_1 : cX0_whoIn.data.toList.drop 24 = dktX0_whoIn_1 := dk_seg dksX0_whoIn_0 24 rfl rfl
theorem dX0_whoIn_0 : decode cX0_whoIn 0 = .ok (.iconst 0, 1) := dk_3 (dk_at dksX0_whoIn_0 0 rfl rfl)
theorem dX0_whoIn_1 : decode cX0_whoIn 1 = .ok (.istore 4, 2) := dk_54 4 (dk_at dksX0_whoIn_0 1 rfl rfl)
theorem dX0_whoIn_3 : decode cX0_whoIn 3 = .ok (.iload 4, 2) := dk_21 4 (dk_at dksX0_whoIn_0 3 rfl rfl)
theorem dX0_whoIn_5 : decode cX0_whoIn 5 = .ok (.aload_n 1, 1) := dk_43 (dk_at dksX0_whoIn_0 5 rfl rfl)
theorem dX0_whoIn_6 : decode cX0_whoIn 6 = .ok (.getfield 15, 3) := dk_180 0 15 (dk_at dksX0_whoIn_0 6 rfl rfl)
theorem dX0_whoIn_9 : decode cX0_whoIn 9 = .ok (.if_icmp .ge 29, 3) := dk_162 0 29 (dk_at dksX0_whoIn_0 9 rfl rfl)
theorem dX0_whoIn_12 : decode cX0_whoIn 12 = .ok (.iload 4, 2) := dk_21 4 (dk_at dksX0_whoIn_0 12 rfl rfl)
theorem dX0_whoIn_14 : decode cX0_whoIn 14 = .ok (.iload_n 3, 1) := dk_29 (dk_at dksX0_whoIn_0 14 rfl rfl)
theorem dX0_whoIn_15 : decode cX0_whoIn 15 = .ok (.if_icmp .eq 17, 3) := dk_159 0 17 (dk_at dksX0_whoIn_0 15 rfl rfl)
theorem dX0_whoIn_18 : decode cX0_whoIn 18 = .ok (.aload_n 0, 1) := dk_42 (dk_at dksX0_whoIn_0 18 rfl rfl)
theorem dX0_whoIn_19 : decode cX0_whoIn 19 = .ok (.getfield 20, 3) := dk_180 0 20 (dk_at dksX0_whoIn_0 19 rfl rfl)
theorem dX0_whoIn_22 : decode cX0_whoIn 22 = .ok (.iload 4, 2) := dk_21 4 (dk_at dksX0_whoIn_0 22 rfl rfl)
theorem dX0_whoIn_24 : decode cX0_whoIn 24 = .ok (.iaload, 1) := dk_46 (dk_at dksX0_whoIn_1 0 rfl rfl)
theorem dX0_whoIn_25 : decode cX0_whoIn 25 = .ok (.iload_n 2, 1) := dk_28 (dk_at dksX0_whoIn_1 1 rfl rfl)
theorem dX0_whoIn_26 : decode cX0_whoIn 26 = .ok (.if_icmp .ne 6, 3) := dk_160 0 6 (dk_at dksX0_whoIn_1 2 rfl rfl)
theorem dX0_whoIn_29 : decode cX0_whoIn 29 = .ok (.iload 4, 2) := dk_21 4 (dk_at dksX0_whoIn_1 5 rfl rfl)
theorem dX0_whoIn_31 : decode cX0_whoIn 31 = .ok (.ireturn, 1) := dk_172 (dk_at dksX0_whoIn_1 7 rfl rfl)
theorem dX0_whoIn_32 : decode cX0_whoIn 32 = .ok (.iinc 4 1, 3) := dk_132 4 1 (dk_at dksX0_whoIn_1 8 rfl rfl)
theorem dX0_whoIn_35 : decode cX0_whoIn 35 = .ok (.goto (-32), 3) := dk_167 255 224 (dk_at dksX0_whoIn_1 11 rfl rfl)
theorem dX0_whoIn_38 : decode cX0_whoIn 38 = .ok (.bipush (-4), 2) := dk_16 252 (dk_at dksX0_whoIn_1 14 rfl rfl)
theorem dX0_whoIn_40 : decode cX0_whoIn 40 = .ok (.ireturn, 1) := dk_172 (dk_at dksX0_whoIn_1 16 rfl rfl)
def dkwX0_at_1 : List UInt8 := [182, 0, 224, 42, 180, 0, 87, 7, 28, 104, 27, 96, 51, 172]
abbrev dktX0_at_1 : List UInt8 := dkwX0_at_1 ++ []
def dkwX0_at_0 : List UInt8 := [42, 27, 182, 0, 205, 153, 0, 10, 28, 184, 0, 227, 154, 0, 5, 2, 172, 42, 42, 180, 0, 107]
abbrev dktX0_at_0 : List UInt8 := dkwX0_at_0 ++ dktX0_at_1
theorem dksX0_at_0 : cX0_at.data.toList.drop 0 = dktX0_at_0 := by decide +kernel
theorem dksX0_at_1 : cX0_at.data.toList.drop 22 = dktX0_at_1 := dk_seg dksX0_at_0 22 rfl rfl
theorem dX0_at_0 : decode cX0_at 0 = .ok (.aload_n 0, 1) := dk_42 (dk_at dksX0_at_0 0 rfl rfl)
theorem dX0_at_1 : decode cX0_at 1 = .ok (.iload_n 1, 1) := dk_27 (dk_at dksX0_at_0 1 rfl rfl)
theorem dX0_at_2 : decode cX0_at 2 = .ok (.invokevirtual 205, 3) := dk_182 0 205 (dk_at dksX0_at_0 2 rfl rfl)
theorem dX0_at_5 : decode cX0_at 5 = .ok (.ifCond .eq 10, 3) := dk_153 0 10 (dk_at dksX0_at_0 5 rfl rfl)
theorem dX0_at_8 : decode cX0_at 8 = .ok (.iload_n 2, 1) := dk_28 (dk_at dksX0_at_0 8 rfl rfl)
theorem dX0_at_9 : decode cX0_at 9 = .ok (.invokestatic 227, 3) := dk_184 0 227 (dk_at dksX0_at_0 9 rfl rfl)
theorem dX0_at_12 : decode cX0_at 12 = .ok (.ifCond .ne 5, 3) := dk_154 0 5 (dk_at dksX0_at_0 12 rfl rfl)
theorem dX0_at_15 : decode cX0_at 15 = .ok (.iconst (-1), 1) := dk_2 (dk_at dksX0_at_0 15 rfl rfl)
theorem dX0_at_16 : decode cX0_at 16 = .ok (.ireturn, 1) := dk_172 (dk_at dksX0_at_0 16 rfl rfl)
theorem dX0_at_17 : decode cX0_at 17 = .ok (.aload_n 0, 1) := dk_42 (dk_at dksX0_at_0 17 rfl rfl)
theorem dX0_at_18 : decode cX0_at 18 = .ok (.aload_n 0, 1) := dk_42 (dk_at dksX0_at_0 18 rfl rfl)
theorem dX0_at_19 : decode cX0_at 19 = .ok (.getfield 107, 3) := dk_180 0 107 (dk_at dksX0_at_0 19 rfl rfl)
theorem dX0_at_22 : decode cX0_at 22 = .ok (.invokevirtual 224, 3) := dk_182 0 224 (dk_at dksX0_at_1 0 rfl rfl)
theorem dX0_at_25 : decode cX0_at 25 = .ok (.aload_n 0, 1) := dk_42 (dk_at dksX0_at_1 3 rfl rfl)
theorem dX0_at_26 : decode cX0_at 26 = .ok (.getfield 87, 3) := dk_180 0 87 (dk_at dksX0_at_1 4 rfl rfl)
theorem dX0_at_29 : decode cX0_at 29 = .ok (.iconst 4, 1) := dk_7 (dk_at dksX0_at_1 7 rfl rfl)
theorem dX0_at_30 : decode cX0_at 30 = .ok (.iload_n 2, 1) := dk_28 (dk_at dksX0_at_1 8 rfl rfl)
theorem dX0_at_31 : decode cX0_at 31 = .ok (.imul, 1) := dk_104 (dk_at dksX0_at_1 9 rfl rfl)
theorem dX0_at_32 : decode cX0_at 32 = .ok (.iload_n 1, 1) := dk_27 (dk_at dksX0_at_1 10 rfl rfl)
theorem dX0_at_33 : decode cX0_at 33 = .ok (.iadd, 1) := dk_96 (dk_at dksX0_at_1 11 rfl rfl)
theorem dX0_at_34 : decode cX0_at 34 = .ok (.baload, 1) := dk_51 (dk_at dksX0_at_1 12 rfl rfl)
theorem dX0_at_35 : decode cX0_at 35 = .ok (.ireturn, 1) := dk_172 (dk_at dksX0_at_1 13 rfl rfl)
def dkwX0_isMinute_0 : List UInt8 := [26, 133, 9, 20, 0, 191, 184, 0, 136, 172]
abbrev dktX0_isMinute_0 : List UInt8 := dkwX0_isMinute_0 ++ []
theorem dksX0_isMinute_0 : cX0_isMinute.data.toList.drop 0 = dktX0_isMinute_0 := by decide +kernel
theorem dX0_isMinute_0 : decode cX0_isMinute 0 = .ok (.iload_n 0, 1) := dk_26 (dk_at dksX0_isMinute_0 0 rfl rfl)
theorem dX0_isMinute_1 : decode cX0_isMinute 1 = .ok (.i2l, 1) := dk_133 (dk_at dksX0_isMinute_0 1 rfl rfl)
theorem dX0_isMinute_2 : decode cX0_isMinute 2 = .ok (.lconst 0, 1) := dk_9 (dk_at dksX0_isMinute_0 2 rfl rfl)
theorem dX0_isMinute_3 : decode cX0_isMinute 3 = .ok (.ldc2_w 191, 3) := dk_20 0 191 (dk_at dksX0_isMinute_0 3 rfl rfl)
theorem dX0_isMinute_6 : decode cX0_isMinute 6 = .ok (.invokestatic 136, 3) := dk_184 0 136 (dk_at dksX0_isMinute_0 6 rfl rfl)
theorem dX0_isMinute_9 : decode cX0_isMinute 9 = .ok (.ireturn, 1) := dk_172 (dk_at dksX0_isMinute_0 9 rfl rfl)
def dkwX0_bump_2 : List UInt8 := [27, 4, 160, 0, 10, 42, 180, 0, 44, 167, 0, 7, 42, 180, 0, 47, 172]
abbrev dktX0_bump_2 : List UInt8 := dkwX0_bump_2 ++ []
def dkwX0_bump_1 : List UInt8 := [180, 0, 41, 16, 252, 160, 0, 8, 16, 252, 167, 0, 30, 27, 154, 0, 10, 42, 180, 0, 41, 167, 0, 19]
abbrev dktX0_bump_1 : List UInt8 := dkwX0_bump_1 ++ dktX0_bump_2
def dkwX0_bump_0 : List UInt8 := [27, 133, 9, 20, 0, 200, 184, 0, 136, 154, 0, 5, 2, 172, 42, 42, 180, 0, 107, 182, 0, 224, 42]
abbrev dktX0_bump_0 : List UInt8 := dkwX0_bump_0 ++ dktX0_bump_1
theorem dksX0_bump_0 : cX0_bump.data.toList.drop 0 = dktX0_bump_0 := by decide +kernel
theorem dksX0_bump_1 : cX0_bump.data.toList.drop 23 = dktX0_bump_1 := dk_seg dksX0_bump_0 23 rfl rfl
theorem dksX0_bump_2 : cX0_bump.data.toList.drop 47 = dktX0_bump_2 := dk_seg dksX0_bump_1 24 rfl rfl
theorem dX0_bump_0 : decode cX0_bump 0 = .ok (.iload_n 1, 1) := dk_27 (dk_at dksX0_bump_0 0 rfl rfl)
theorem dX0_bump_1 : decode cX0_bump 1 = .ok (.i2l, 1) := dk_133 (dk_at dksX0_bump_0 1 rfl rfl)
theorem dX0_bump_2 : decode cX0_bump 2 = .ok (.lconst 0, 1) := dk_9 (dk_at dksX0_bump_0 2 rfl rfl)
theorem dX0_bump_3 : decode cX0_bump 3 = .ok (.ldc2_w 200, 3) := dk_20 0 200 (dk_at dksX0_bump_0 3 rfl rfl)
theorem dX0_bump_6 : decode cX0_bump 6 = .ok (.invokestatic 136, 3) := dk_184 0 136 (dk_at dksX0_bump_0 6 rfl rfl)
theorem dX0_bump_9 : decode cX0_bump 9 = .ok (.ifCond .ne 5, 3) := dk_154 0 5 (dk_at dksX0_bump_0 9 rfl rfl)
theorem dX0_bump_12 : decode cX0_bump 12 = .ok (.iconst (-1), 1) := dk_2 (dk_at dksX0_bump_0 12 rfl rfl)
theorem dX0_bump_13 : decode cX0_bump 13 = .ok (.ireturn, 1) := dk_172 (dk_at dksX0_bump_0 13 rfl rfl)
theorem dX0_bump_14 : decode cX0_bump 14 = .ok (.aload_n 0, 1) := dk_42 (dk_at dksX0_bump_0 14 rfl rfl)
theorem dX0_bump_15 : decode cX0_bump 15 = .ok (.aload_n 0, 1) := dk_42 (dk_at dksX0_bump_0 15 rfl rfl)
theorem dX0_bump_16 : decode cX0_bump 16 = .ok (.getfield 107, 3) := dk_180 0 107 (dk_at dksX0_bump_0 16 rfl rfl)
theorem dX0_bump_19 : decode cX0_bump 19 = .ok (.invokevirtual 224, 3) := dk_182 0 224 (dk_at dksX0_bump_0 19 rfl rfl)
theorem dX0_bump_22 : decode cX0_bump 22 = .ok (.aload_n 0, 1) := dk_42 (dk_at dksX0_bump_0 22 rfl rfl)
theorem dX0_bump_23 : decode cX0_bump 23 = .ok (.getfield 41, 3) := dk_180 0 41 (dk_at dksX0_bump_1 0 rfl rfl)
theorem dX0_bump_26 : decode cX0_bump 26 = .ok (.bipush (-4), 2) := dk_16 252 (dk_at dksX0_bump_1 3 rfl rfl)
theorem dX0_bump_28 : decode cX0_bump 28 = .ok (.if_icmp .ne 8, 3) := dk_160 0 8 (dk_at dksX0_bump_1 5 rfl rfl)
theorem dX0_bump_31 : decode cX0_bump 31 = .ok (.bipush (-4), 2) := dk_16 252 (dk_at dksX0_bump_1 8 rfl rfl)
theorem dX0_bump_33 : decode cX0_bump 33 = .ok (.goto 30, 3) := dk_167 0 30 (dk_at dksX0_bump_1 10 rfl rfl)
theorem dX0_bump_36 : decode cX0_bump 36 = .ok (.iload_n 1, 1) := dk_27 (dk_at dksX0_bump_1 13 rfl rfl)
theorem dX0_bump_37 : decode cX0_bump 37 = .ok (.ifCond .ne 10, 3) := dk_154 0 10 (dk_at dksX0_bump_1 14 rfl rfl)
theorem dX0_bump_40 : decode cX0_bump 40 = .ok (.aload_n 0, 1) := dk_42 (dk_at dksX0_bump_1 17 rfl rfl)
theorem dX0_bump_41 : decode cX0_bump 41 = .ok (.getfield 41, 3) := dk_180 0 41 (dk_at dksX0_bump_1 18 rfl rfl)
theorem dX0_bump_44 : decode cX0_bump 44 = .ok (.goto 19, 3) := dk_167 0 19 (dk_at dksX0_bump_1 21 rfl rfl)
theorem dX0_bump_47 : decode cX0_bump 47 = .ok (.iload_n 1, 1) := dk_27 (dk_at dksX0_bump_2 0 rfl rfl)
theorem dX0_bump_48 : decode cX0_bump 48 = .ok (.iconst 1, 1) := dk_4 (dk_at dksX0_bump_2 1 rfl rfl)
theorem dX0_bump_49 : decode cX0_bump 49 = .ok (.if_icmp .ne 10, 3) := dk_160 0 10 (dk_at dksX0_bump_2 2 rfl rfl)
theorem dX0_bump_52 : decode cX0_bump 52 = .ok (.aload_n 0, 1) := dk_42 (dk_at dksX0_bump_2 5 rfl rfl)
theorem dX0_bump_53 : decode cX0_bump 53 = .ok (.getfield 44, 3) := dk_180 0 44 (dk_at dksX0_bump_2 6 rfl rfl)
theorem dX0_bump_56 : decode cX0_bump 56 = .ok (.goto 7, 3) := dk_167 0 7 (dk_at dksX0_bump_2 9 rfl rfl)
theorem dX0_bump_59 : decode cX0_bump 59 = .ok (.aload_n 0, 1) := dk_42 (dk_at dksX0_bump_2 12 rfl rfl)
theorem dX0_bump_60 : decode cX0_bump 60 = .ok (.getfield 47, 3) := dk_180 0 47 (dk_at dksX0_bump_2 13 rfl rfl)
theorem dX0_bump_63 : decode cX0_bump 63 = .ok (.ireturn, 1) := dk_172 (dk_at dksX0_bump_2 16 rfl rfl)
def dkwX0_sum_3 : List UInt8 := [180, 0, 38, 167, 0, 7, 42, 180, 0, 32, 172]
abbrev dktX0_sum_3 : List UInt8 := dkwX0_sum_3 ++ []
def dkwX0_sum_2 : List UInt8 := [182, 0, 234, 167, 0, 31, 27, 5, 160, 0, 10, 42, 180, 0, 76, 167, 0, 19, 27, 6, 160, 0, 10, 42]
abbrev dktX0_sum_2 : List UInt8 := dkwX0_sum_2 ++ dktX0_sum_3
def dkwX0_sum_1 : List UInt8 := [154, 0, 14, 42, 42, 180, 0, 107, 182, 0, 230, 167, 0, 47, 27, 4, 160, 0, 14, 42, 42, 180, 0, 107]
abbrev dktX0_sum_1 : List UInt8 := dkwX0_sum_1 ++ dktX0_sum_2
def dkwX0_sum_0 : List UInt8 := [27, 133, 9, 20, 0, 210, 184, 0, 136, 154, 0, 5, 2, 172, 42, 42, 180, 0, 107, 182, 0, 224, 27]
abbrev dktX0_sum_0 : List UInt8 := dkwX0_sum_0 ++ dktX0_sum_1
theorem dksX0_sum_0 : cX0_sum.data.toList.drop 0 = dktX0_sum_0 := by decide +kernel
theorem dksX0_sum_1 : cX0_sum.data.toList.drop 23 = dktX0_sum_1 := dk_seg dksX0_sum_0 23 rfl rfl
theorem dksX0_sum_2 : cX0_sum.data.toList.drop 47 = dktX0_sum_2 := dk_seg dksX0_sum_1 24 rfl rfl
theorem dksX0_sum_3 : cX0_sum.data.toList.drop 71 = dktX0_sum_3 := dk_seg dksX0_sum_2 24 rfl rfl
theorem dX0_sum_0 : decode cX0_sum 0 = .ok (.iload_n 1, 1) := dk_27 (dk_at dksX0_sum_0 0 rfl rfl)
theorem dX0_sum_1 : decode cX0_sum 1 = .ok (.i2l, 1) := dk_133 (dk_at dksX0_sum_0 1 rfl rfl)
theorem dX0_sum_2 : decode cX0_sum 2 = .ok (.lconst 0, 1) := dk_9 (dk_at dksX0_sum_0 2 rfl rfl)
theorem dX0_sum_3 : decode cX0_sum 3 = .ok (.ldc2_w 210, 3) := dk_20 0 210 (dk_at dksX0_sum_0 3 rfl rfl)
theorem dX0_sum_6 : decode cX0_sum 6 = .ok (.invokestatic 136, 3) := dk_184 0 136 (dk_at dksX0_sum_0 6 rfl rfl)
theorem dX0_sum_9 : decode cX0_sum 9 = .ok (.ifCond .ne 5, 3) := dk_154 0 5 (dk_at dksX0_sum_0 9 rfl rfl)
theorem dX0_sum_12 : decode cX0_sum 12 = .ok (.iconst (-1), 1) := dk_2 (dk_at dksX0_sum_0 12 rfl rfl)
theorem dX0_sum_13 : decode cX0_sum 13 = .ok (.ireturn, 1) := dk_172 (dk_at dksX0_sum_0 13 rfl rfl)
theorem dX0_sum_14 : decode cX0_sum 14 = .ok (.aload_n 0, 1) := dk_42 (dk_at dksX0_sum_0 14 rfl rfl)
theorem dX0_sum_15 : decode cX0_sum 15 = .ok (.aload_n 0, 1) := dk_42 (dk_at dksX0_sum_0 15 rfl rfl)
theorem dX0_sum_16 : decode cX0_sum 16 = .ok (.getfield 107, 3) := dk_180 0 107 (dk_at dksX0_sum_0 16 rfl rfl)
theorem dX0_sum_19 : decode cX0_sum 19 = .ok (.invokevirtual 224, 3) := dk_182 0 224 (dk_at dksX0_sum_0 19 rfl rfl)
theorem dX0_sum_22 : decode cX0_sum 22 = .ok (.iload_n 1, 1) := dk_27 (dk_at dksX0_sum_0 22 rfl rfl)
theorem dX0_sum_23 : decode cX0_sum 23 = .ok (.ifCond .ne 14, 3) := dk_154 0 14 (dk_at dksX0_sum_1 0 rfl rfl)
theorem dX0_sum_26 : decode cX0_sum 26 = .ok (.aload_n 0, 1) := dk_42 (dk_at dksX0_sum_1 3 rfl rfl)
theorem dX0_sum_27 : decode cX0_sum 27 = .ok (.aload_n 0, 1) := dk_42 (dk_at dksX0_sum_1 4 rfl rfl)
theorem dX0_sum_28 : decode cX0_sum 28 = .ok (.getfield 107, 3) := dk_180 0 107 (dk_at dksX0_sum_1 5 rfl rfl)
theorem dX0_sum_31 : decode cX0_sum 31 = .ok (.invokevirtual 230, 3) := dk_182 0 230 (dk_at dksX0_sum_1 8 rfl rfl)
theorem dX0_sum_34 : decode cX0_sum 34 = .ok (.goto 47, 3) := dk_167 0 47 (dk_at dksX0_sum_1 11 rfl rfl)
theorem dX0_sum_37 : decode cX0_sum 37 = .ok (.iload_n 1, 1) := dk_27 (dk_at dksX0_sum_1 14 rfl rfl)
theorem dX0_sum_38 : decode cX0_sum 38 = .ok (.iconst 1, 1) := dk_4 (dk_at dksX0_sum_1 15 rfl rfl)
theorem dX0_sum_39 : decode cX0_sum 39 = .ok (.if_icmp .ne 14, 3) := dk_160 0 14 (dk_at dksX0_sum_1 16 rfl rfl)
theorem dX0_sum_42 : decode cX0_sum 42 = .ok (.aload_n 0, 1) := dk_42 (dk_at dksX0_sum_1 19 rfl rfl)
theorem dX0_sum_43 : decode cX0_sum 43 = .ok (.aload_n 0, 1) := dk_42 (dk_at dksX0_sum_1 20 rfl rfl)
theorem dX0_sum_44 : decode cX0_sum 44 = .ok (.getfield 107, 3) := dk_180 0 107 (dk_at dksX0_sum_1 21 rfl rfl)
theorem dX0_sum_47 : decode cX0_sum 47 = .ok (.invokevirtual 234, 3) := dk_182 0 234 (dk_at dksX0_sum_2 0 rfl rfl)
theorem dX0_sum_50 : decode cX0_sum 50 = .ok (.goto 31, 3) := dk_167 0 31 (dk_at dksX0_sum_2 3 rfl rfl)
theorem dX0_sum_53 : decode cX0_sum 53 = .ok (.iload_n 1, 1) := dk_27 (dk_at dksX0_sum_2 6 rfl rfl)
theorem dX0_sum_54 : decode cX0_sum 54 = .ok (.iconst 2, 1) := dk_5 (dk_at dksX0_sum_2 7 rfl rfl)
theorem dX0_sum_55 : decode cX0_sum 55 = .ok (.if_icmp .ne 10, 3) := dk_160 0 10 (dk_at dksX0_sum_2 8 rfl rfl)
theorem dX0_sum_58 : decode cX0_sum 58 = .ok (.aload_n 0, 1) := dk_42 (dk_at dksX0_sum_2 11 rfl rfl)
theorem dX0_sum_59 : decode cX0_sum 59 = .ok (.getfield 76, 3) := dk_180 0 76 (dk_at dksX0_sum_2 12 rfl rfl)
theorem dX0_sum_62 : decode cX0_sum 62 = .ok (.goto 19, 3) := dk_167 0 19 (dk_at dksX0_sum_2 15 rfl rfl)
theorem dX0_sum_65 : decode cX0_sum 65 = .ok (.iload_n 1, 1) := dk_27 (dk_at dksX0_sum_2 18 rfl rfl)
theorem dX0_sum_66 : decode cX0_sum 66 = .ok (.iconst 3, 1) := dk_6 (dk_at dksX0_sum_2 19 rfl rfl)
theorem dX0_sum_67 : decode cX0_sum 67 = .ok (.if_icmp .ne 10, 3) := dk_160 0 10 (dk_at dksX0_sum_2 20 rfl rfl)
theorem dX0_sum_70 : decode cX0_sum 70 = .ok (.aload_n 0, 1) := dk_42 (dk_at dksX0_sum_2 23 rfl rfl)
theorem dX0_sum_71 : decode cX0_sum 71 = .ok (.getfield 38, 3) := dk_180 0 38 (dk_at dksX0_sum_3 0 rfl rfl)
theorem dX0_sum_74 : decode cX0_sum 74 = .ok (.goto 7, 3) := dk_167 0 7 (dk_at dksX0_sum_3 3 rfl rfl)
theorem dX0_sum_77 : decode cX0_sum 77 = .ok (.aload_n 0, 1) := dk_42 (dk_at dksX0_sum_3 6 rfl rfl)
theorem dX0_sum_78 : decode cX0_sum 78 = .ok (.getfield 32, 3) := dk_180 0 32 (dk_at dksX0_sum_3 7 rfl rfl)
theorem dX0_sum_81 : decode cX0_sum 81 = .ok (.ireturn, 1) := dk_172 (dk_at dksX0_sum_3 10 rfl rfl)
def dkwX0_cost_2 : List UInt8 := [167, 255, 213, 28, 172]
abbrev dktX0_cost_2 : List UInt8 := dkwX0_cost_2 ++ []
def dkwX0_cost_1 : List UInt8 := [16, 120, 167, 0, 9, 42, 180, 0, 54, 29, 46, 43, 29, 6, 182, 0, 64, 104, 96, 61, 132, 3, 1]
abbrev dktX0_cost_1 : List UInt8 := dkwX0_cost_1 ++ dktX0_cost_2
def dkwX0_cost_0 : List UInt8 := [3, 61, 3, 62, 29, 43, 180, 0, 15, 162, 0, 41, 28, 42, 180, 0, 54, 29, 46, 16, 252, 160, 0, 8]
abbrev dktX0_cost_0 : List UInt8 := dkwX0_cost_0 ++ dktX0_cost_1
theorem dksX0_cost_0 : cX0_cost.data.toList.drop 0 = dktX0_cost_0 := by decide +kernel
theorem dksX0_cost_1 : cX0_cost.data.toList.drop 24 = dktX0_cost_1 := dk_seg dksX0_cost_0 24 rfl rfl
theorem dksX0_cost_2 : cX0_cost.data.toList.drop 47 = dktX0_cost_2 := dk_seg dksX0_cost_1 23 rfl rfl
theorem dX0_cost_0 : decode cX0_cost 0 = .ok (.iconst 0, 1) := dk_3 (dk_at dksX0_cost_0 0 rfl rfl)
theorem dX0_cost_1 : decode cX0_cost 1 = .ok (.istore_n 2, 1) := dk_61 (dk_at dksX0_cost_0 1 rfl rfl)
theorem dX0_cost_2 : decode cX0_cost 2 = .ok (.iconst 0, 1) := dk_3 (dk_at dksX0_cost_0 2 rfl rfl)
theorem dX0_cost_3 : decode cX0_cost 3 = .ok (.istore_n 3, 1) := dk_62 (dk_at dksX0_cost_0 3 rfl rfl)
theorem dX0_cost_4 : decode cX0_cost 4 = .ok (.iload_n 3, 1) := dk_29 (dk_at dksX0_cost_0 4 rfl rfl)
theorem dX0_cost_5 : decode cX0_cost 5 = .ok (.aload_n 1, 1) := dk_43 (dk_at dksX0_cost_0 5 rfl rfl)
theorem dX0_cost_6 : decode cX0_cost 6 = .ok (.getfield 15, 3) := dk_180 0 15 (dk_at dksX0_cost_0 6 rfl rfl)
theorem dX0_cost_9 : decode cX0_cost 9 = .ok (.if_icmp .ge 41, 3) := dk_162 0 41 (dk_at dksX0_cost_0 9 rfl rfl)
theorem dX0_cost_12 : decode cX0_cost 12 = .ok (.iload_n 2, 1) := dk_28 (dk_at dksX0_cost_0 12 rfl rfl)
theorem dX0_cost_13 : decode cX0_cost 13 = .ok (.aload_n 0, 1) := dk_42 (dk_at dksX0_cost_0 13 rfl rfl)
theorem dX0_cost_14 : decode cX0_cost 14 = .ok (.getfield 54, 3) := dk_180 0 54 (dk_at dksX0_cost_0 14 rfl rfl)
theorem dX0_cost_17 : decode cX0_cost 17 = .ok (.iload_n 3, 1) := dk_29 (dk_at dksX0_cost_0 17 rfl rfl)
theorem dX0_cost_18 : decode cX0_cost 18 = .ok (.iaload, 1) := dk_46 (dk_at dksX0_cost_0 18 rfl rfl)
theorem dX0_cost_19 : decode cX0_cost 19 = .ok (.bipush (-4), 2) := dk_16 252 (dk_at dksX0_cost_0 19 rfl rfl)
theorem dX0_cost_21 : decode cX0_cost 21 = .ok (.if_icmp .ne 8, 3) := dk_160 0 8 (dk_at dksX0_cost_0 21 rfl rfl)
theorem dX0_cost_24 : decode cX0_cost 24 = .ok (.bipush 120, 2) := dk_16 120 (dk_at dksX0_cost_1 0 rfl rfl)
theorem dX0_cost_26 : decode cX0_cost 26 = .ok (.goto 9, 3) := dk_167 0 9 (dk_at dksX0_cost_1 2 rfl rfl)
theorem dX0_cost_29 : decode cX0_cost 29 = .ok (.aload_n 0, 1) := dk_42 (dk_at dksX0_cost_1 5 rfl rfl)
theorem dX0_cost_30 : decode cX0_cost 30 = .ok (.getfield 54, 3) := dk_180 0 54 (dk_at dksX0_cost_1 6 rfl rfl)
theorem dX0_cost_33 : decode cX0_cost 33 = .ok (.iload_n 3, 1) := dk_29 (dk_at dksX0_cost_1 9 rfl rfl)
theorem dX0_cost_34 : decode cX0_cost 34 = .ok (.iaload, 1) := dk_46 (dk_at dksX0_cost_1 10 rfl rfl)
theorem dX0_cost_35 : decode cX0_cost 35 = .ok (.aload_n 1, 1) := dk_43 (dk_at dksX0_cost_1 11 rfl rfl)
theorem dX0_cost_36 : decode cX0_cost 36 = .ok (.iload_n 3, 1) := dk_29 (dk_at dksX0_cost_1 12 rfl rfl)
theorem dX0_cost_37 : decode cX0_cost 37 = .ok (.iconst 3, 1) := dk_6 (dk_at dksX0_cost_1 13 rfl rfl)
theorem dX0_cost_38 : decode cX0_cost 38 = .ok (.invokevirtual 64, 3) := dk_182 0 64 (dk_at dksX0_cost_1 14 rfl rfl)
theorem dX0_cost_41 : decode cX0_cost 41 = .ok (.imul, 1) := dk_104 (dk_at dksX0_cost_1 17 rfl rfl)
theorem dX0_cost_42 : decode cX0_cost 42 = .ok (.iadd, 1) := dk_96 (dk_at dksX0_cost_1 18 rfl rfl)
theorem dX0_cost_43 : decode cX0_cost 43 = .ok (.istore_n 2, 1) := dk_61 (dk_at dksX0_cost_1 19 rfl rfl)
theorem dX0_cost_44 : decode cX0_cost 44 = .ok (.iinc 3 1, 3) := dk_132 3 1 (dk_at dksX0_cost_1 20 rfl rfl)
theorem dX0_cost_47 : decode cX0_cost 47 = .ok (.goto (-43), 3) := dk_167 255 213 (dk_at dksX0_cost_2 0 rfl rfl)
theorem dX0_cost_50 : decode cX0_cost 50 = .ok (.iload_n 2, 1) := dk_28 (dk_at dksX0_cost_2 3 rfl rfl)
theorem dX0_cost_51 : decode cX0_cost 51 = .ok (.ireturn, 1) := dk_172 (dk_at dksX0_cost_2 4 rfl rfl)
def dkwX0_homed_1 : List UInt8 := [3, 167, 0, 4, 4, 96, 61, 132, 3, 1, 167, 255, 226, 28, 172]
abbrev dktX0_homed_1 : List UInt8 := dkwX0_homed_1 ++ []
def dkwX0_homed_0 : List UInt8 := [3, 61, 3, 62, 29, 43, 180, 0, 15, 162, 0, 28, 28, 42, 180, 0, 54, 29, 46, 16, 252, 160, 0, 7]
abbrev dktX0_homed_0 : List UInt8 := dkwX0_homed_0 ++ dktX0_homed_1
theorem dksX0_homed_0 : cX0_homed.data.toList.drop 0 = dktX0_homed_0 := by decide +kernel
theorem dksX0_homed_1 : cX0_homed.data.toList.drop 24 = dktX0_homed_1 := dk_seg dksX0_homed_0 24 rfl rfl
theorem dX0_homed_0 : decode cX0_homed 0 = .ok (.iconst 0, 1) := dk_3 (dk_at dksX0_homed_0 0 rfl rfl)
theorem dX0_homed_1 : decode cX0_homed 1 = .ok (.istore_n 2, 1) := dk_61 (dk_at dksX0_homed_0 1 rfl rfl)
theorem dX0_homed_2 : decode cX0_homed 2 = .ok (.iconst 0, 1) := dk_3 (dk_at dksX0_homed_0 2 rfl rfl)
theorem dX0_homed_3 : decode cX0_homed 3 = .ok (.istore_n 3, 1) := dk_62 (dk_at dksX0_homed_0 3 rfl rfl)
theorem dX0_homed_4 : decode cX0_homed 4 = .ok (.iload_n 3, 1) := dk_29 (dk_at dksX0_homed_0 4 rfl rfl)
theorem dX0_homed_5 : decode cX0_homed 5 = .ok (.aload_n 1, 1) := dk_43 (dk_at dksX0_homed_0 5 rfl rfl)
theorem dX0_homed_6 : decode cX0_homed 6 = .ok (.getfield 15, 3) := dk_180 0 15 (dk_at dksX0_homed_0 6 rfl rfl)
theorem dX0_homed_9 : decode cX0_homed 9 = .ok (.if_icmp .ge 28, 3) := dk_162 0 28 (dk_at dksX0_homed_0 9 rfl rfl)
theorem dX0_homed_12 : decode cX0_homed 12 = .ok (.iload_n 2, 1) := dk_28 (dk_at dksX0_homed_0 12 rfl rfl)
theorem dX0_homed_13 : decode cX0_homed 13 = .ok (.aload_n 0, 1) := dk_42 (dk_at dksX0_homed_0 13 rfl rfl)
theorem dX0_homed_14 : decode cX0_homed 14 = .ok (.getfield 54, 3) := dk_180 0 54 (dk_at dksX0_homed_0 14 rfl rfl)
theorem dX0_homed_17 : decode cX0_homed 17 = .ok (.iload_n 3, 1) := dk_29 (dk_at dksX0_homed_0 17 rfl rfl)
theorem dX0_homed_18 : decode cX0_homed 18 = .ok (.iaload, 1) := dk_46 (dk_at dksX0_homed_0 18 rfl rfl)
theorem dX0_homed_19 : decode cX0_homed 19 = .ok (.bipush (-4), 2) := dk_16 252 (dk_at dksX0_homed_0 19 rfl rfl)
theorem dX0_homed_21 : decode cX0_homed 21 = .ok (.if_icmp .ne 7, 3) := dk_160 0 7 (dk_at dksX0_homed_0 21 rfl rfl)
theorem dX0_homed_24 : decode cX0_homed 24 = .ok (.iconst 0, 1) := dk_3 (dk_at dksX0_homed_1 0 rfl rfl)
theorem dX0_homed_25 : decode cX0_homed 25 = .ok (.goto 4, 3) := dk_167 0 4 (dk_at dksX0_homed_1 1 rfl rfl)
theorem dX0_homed_28 : decode cX0_homed 28 = .ok (.iconst 1, 1) := dk_4 (dk_at dksX0_homed_1 4 rfl rfl)
theorem dX0_homed_29 : decode cX0_homed 29 = .ok (.iadd, 1) := dk_96 (dk_at dksX0_homed_1 5 rfl rfl)
theorem dX0_homed_30 : decode cX0_homed 30 = .ok (.istore_n 2, 1) := dk_61 (dk_at dksX0_homed_1 6 rfl rfl)
theorem dX0_homed_31 : decode cX0_homed 31 = .ok (.iinc 3 1, 3) := dk_132 3 1 (dk_at dksX0_homed_1 7 rfl rfl)
theorem dX0_homed_34 : decode cX0_homed 34 = .ok (.goto (-30), 3) := dk_167 255 226 (dk_at dksX0_homed_1 10 rfl rfl)
theorem dX0_homed_37 : decode cX0_homed 37 = .ok (.iload_n 2, 1) := dk_28 (dk_at dksX0_homed_1 13 rfl rfl)
theorem dX0_homed_38 : decode cX0_homed 38 = .ok (.ireturn, 1) := dk_172 (dk_at dksX0_homed_1 14 rfl rfl)
def dkwX0_fewest_4 : List UInt8 := [29, 172]
abbrev dktX0_fewest_4 : List UInt8 := dkwX0_fewest_4 ++ []
def dkwX0_fewest_3 : List UInt8 := [21, 4, 184, 0, 238, 167, 0, 4, 28, 61, 132, 4, 1, 167, 255, 189, 27, 154, 0, 7, 28, 167, 0, 4]
abbrev dktX0_fewest_3 : List UInt8 := dkwX0_fewest_3 ++ dktX0_fewest_4
def dkwX0_fewest_2 : List UInt8 := [180, 0, 41, 16, 252, 160, 0, 8, 21, 4, 167, 0, 4, 29, 62, 42, 180, 0, 41, 16, 252, 160, 0, 11]
abbrev dktX0_fewest_2 : List UInt8 := dkwX0_fewest_2 ++ dktX0_fewest_3
def dkwX0_fewest_1 : List UInt8 := [180, 0, 188, 120, 162, 0, 59, 21, 4, 184, 0, 238, 28, 162, 0, 44, 42, 21, 4, 182, 0, 243, 42]
abbrev dktX0_fewest_1 : List UInt8 := dkwX0_fewest_1 ++ dktX0_fewest_2
def dkwX0_fewest_0 : List UInt8 := [27, 184, 0, 202, 154, 0, 5, 2, 172, 18, 237, 61, 3, 62, 3, 54, 4, 21, 4, 4, 42, 180, 0, 107]
abbrev dktX0_fewest_0 : List UInt8 := dkwX0_fewest_0 ++ dktX0_fewest_1
theorem dksX0_fewest_0 : cX0_fewest.data.toList.drop 0 = dktX0_fewest_0 := by decide +kernel
theorem dksX0_fewest_1 : cX0_fewest.data.toList.drop 24 = dktX0_fewest_1 := dk_seg dksX0_fewest_0 24 rfl rfl
theorem dksX0_fewest_2 : cX0_fewest.data.toList.drop 47 = dktX0_fewest_2 := dk_seg dksX0_fewest_1 23 rfl rfl
theorem dksX0_fewest_3 : cX0_fewest.data.toList.drop 71 = dktX0_fewest_3 := dk_seg dksX0_fewest_2 24 rfl rfl
theorem dksX0_fewest_4 : cX0_fewest.data.toList.drop 95 = dktX0_fewest_4 := dk_seg dksX0_fewest_3 24 rfl rfl
theorem dX0_fewest_0 : decode cX0_fewest 0 = .ok (.iload_n 1, 1) := dk_27 (dk_at dksX0_fewest_0 0 rfl rfl)
theorem dX0_fewest_1 : decode cX0_fewest 1 = .ok (.invokestatic 202, 3) := dk_184 0 202 (dk_at dksX0_fewest_0 1 rfl rfl)
theorem dX0_fewest_4 : decode cX0_fewest 4 = .ok (.ifCond .ne 5, 3) := dk_154 0 5 (dk_at dksX0_fewest_0 4 rfl rfl)
theorem dX0_fewest_7 : decode cX0_fewest 7 = .ok (.iconst (-1), 1) := dk_2 (dk_at dksX0_fewest_0 7 rfl rfl)
theorem dX0_fewest_8 : decode cX0_fewest 8 = .ok (.ireturn, 1) := dk_172 (dk_at dksX0_fewest_0 8 rfl rfl)
theorem dX0_fewest_9 : decode cX0_fewest 9 = .ok (.ldc 237, 2) := dk_18 237 (dk_at dksX0_fewest_0 9 rfl rfl)
theorem dX0_fewest_11 : decode cX0_fewest 11 = .ok (.istore_n 2, 1) := dk_61 (dk_at dksX0_fewest_0 11 rfl rfl)
theorem dX0_fewest_12 : decode cX0_fewest 12 = .ok (.iconst 0, 1) := dk_3 (dk_at dksX0_fewest_0 12 rfl rfl)
theorem dX0_fewest_13 : decode cX0_fewest 13 = .ok (.istore_n 3, 1) := dk_62 (dk_at dksX0_fewest_0 13 rfl rfl)
theorem dX0_fewest_14 : decode cX0_fewest 14 = .ok (.iconst 0, 1) := dk_3 (dk_at dksX0_fewest_0 14 rfl rfl)
theorem dX0_fewest_15 : decode cX0_fewest 15 = .ok (.istore 4, 2) := dk_54 4 (dk_at dksX0_fewest_0 15 rfl rfl)
theorem dX0_fewest_17 : decode cX0_fewest 17 = .ok (.iload 4, 2) := dk_21 4 (dk_at dksX0_fewest_0 17 rfl rfl)
theorem dX0_fewest_19 : decode cX0_fewest 19 = .ok (.iconst 1, 1) := dk_4 (dk_at dksX0_fewest_0 19 rfl rfl)
theorem dX0_fewest_20 : decode cX0_fewest 20 = .ok (.aload_n 0, 1) := dk_42 (dk_at dksX0_fewest_0 20 rfl rfl)
theorem dX0_fewest_21 : decode cX0_fewest 21 = .ok (.getfield 107, 3) := dk_180 0 107 (dk_at dksX0_fewest_0 21 rfl rfl)
theorem dX0_fewest_24 : decode cX0_fewest 24 = .ok (.getfield 188, 3) := dk_180 0 188 (dk_at dksX0_fewest_1 0 rfl rfl)
theorem dX0_fewest_27 : decode cX0_fewest 27 = .ok (.ishl, 1) := dk_120 (dk_at dksX0_fewest_1 3 rfl rfl)
theorem dX0_fewest_28 : decode cX0_fewest 28 = .ok (.if_icmp .ge 59, 3) := dk_162 0 59 (dk_at dksX0_fewest_1 4 rfl rfl)
theorem dX0_fewest_31 : decode cX0_fewest 31 = .ok (.iload 4, 2) := dk_21 4 (dk_at dksX0_fewest_1 7 rfl rfl)
theorem dX0_fewest_33 : decode cX0_fewest 33 = .ok (.invokestatic 238, 3) := dk_184 0 238 (dk_at dksX0_fewest_1 9 rfl rfl)
theorem dX0_fewest_36 : decode cX0_fewest 36 = .ok (.iload_n 2, 1) := dk_28 (dk_at dksX0_fewest_1 12 rfl rfl)
theorem dX0_fewest_37 : decode cX0_fewest 37 = .ok (.if_icmp .ge 44, 3) := dk_162 0 44 (dk_at dksX0_fewest_1 13 rfl rfl)
theorem dX0_fewest_40 : decode cX0_fewest 40 = .ok (.aload_n 0, 1) := dk_42 (dk_at dksX0_fewest_1 16 rfl rfl)
theorem dX0_fewest_41 : decode cX0_fewest 41 = .ok (.iload 4, 2) := dk_21 4 (dk_at dksX0_fewest_1 17 rfl rfl)
theorem dX0_fewest_43 : decode cX0_fewest 43 = .ok (.invokevirtual 243, 3) := dk_182 0 243 (dk_at dksX0_fewest_1 19 rfl rfl)
theorem dX0_fewest_46 : decode cX0_fewest 46 = .ok (.aload_n 0, 1) := dk_42 (dk_at dksX0_fewest_1 22 rfl rfl)
theorem dX0_fewest_47 : decode cX0_fewest 47 = .ok (.getfield 41, 3) := dk_180 0 41 (dk_at dksX0_fewest_2 0 rfl rfl)
theorem dX0_fewest_50 : decode cX0_fewest 50 = .ok (.bipush (-4), 2) := dk_16 252 (dk_at dksX0_fewest_2 3 rfl rfl)
theorem dX0_fewest_52 : decode cX0_fewest 52 = .ok (.if_icmp .ne 8, 3) := dk_160 0 8 (dk_at dksX0_fewest_2 5 rfl rfl)
theorem dX0_fewest_55 : decode cX0_fewest 55 = .ok (.iload 4, 2) := dk_21 4 (dk_at dksX0_fewest_2 8 rfl rfl)
theorem dX0_fewest_57 : decode cX0_fewest 57 = .ok (.goto 4, 3) := dk_167 0 4 (dk_at dksX0_fewest_2 10 rfl rfl)
theorem dX0_fewest_60 : decode cX0_fewest 60 = .ok (.iload_n 3, 1) := dk_29 (dk_at dksX0_fewest_2 13 rfl rfl)
theorem dX0_fewest_61 : decode cX0_fewest 61 = .ok (.istore_n 3, 1) := dk_62 (dk_at dksX0_fewest_2 14 rfl rfl)
theorem dX0_fewest_62 : decode cX0_fewest 62 = .ok (.aload_n 0, 1) := dk_42 (dk_at dksX0_fewest_2 15 rfl rfl)
theorem dX0_fewest_63 : decode cX0_fewest 63 = .ok (.getfield 41, 3) := dk_180 0 41 (dk_at dksX0_fewest_2 16 rfl rfl)
theorem dX0_fewest_66 : decode cX0_fewest 66 = .ok (.bipush (-4), 2) := dk_16 252 (dk_at dksX0_fewest_2 19 rfl rfl)
theorem dX0_fewest_68 : decode cX0_fewest 68 = .ok (.if_icmp .ne 11, 3) := dk_160 0 11 (dk_at dksX0_fewest_2 21 rfl rfl)
theorem dX0_fewest_71 : decode cX0_fewest 71 = .ok (.iload 4, 2) := dk_21 4 (dk_at dksX0_fewest_3 0 rfl rfl)
theorem dX0_fewest_73 : decode cX0_fewest 73 = .ok (.invokestatic 238, 3) := dk_184 0 238 (dk_at dksX0_fewest_3 2 rfl rfl)
theorem dX0_fewest_76 : decode cX0_fewest 76 = .ok (.goto 4, 3) := dk_167 0 4 (dk_at dksX0_fewest_3 5 rfl rfl)
theorem dX0_fewest_79 : decode cX0_fewest 79 = .ok (.iload_n 2, 1) := dk_28 (dk_at dksX0_fewest_3 8 rfl rfl)
theorem dX0_fewest_80 : decode cX0_fewest 80 = .ok (.istore_n 2, 1) := dk_61 (dk_at dksX0_fewest_3 9 rfl rfl)
theorem dX0_fewest_81 : decode cX0_fewest 81 = .ok (.iinc 4 1, 3) := dk_132 4 1 (dk_at dksX0_fewest_3 10 rfl rfl)
theorem dX0_fewest_84 : decode cX0_fewest 84 = .ok (.goto (-67), 3) := dk_167 255 189 (dk_at dksX0_fewest_3 13 rfl rfl)
theorem dX0_fewest_87 : decode cX0_fewest 87 = .ok (.iload_n 1, 1) := dk_27 (dk_at dksX0_fewest_3 16 rfl rfl)
theorem dX0_fewest_88 : decode cX0_fewest 88 = .ok (.ifCond .ne 7, 3) := dk_154 0 7 (dk_at dksX0_fewest_3 17 rfl rfl)
theorem dX0_fewest_91 : decode cX0_fewest 91 = .ok (.iload_n 2, 1) := dk_28 (dk_at dksX0_fewest_3 20 rfl rfl)
theorem dX0_fewest_92 : decode cX0_fewest 92 = .ok (.goto 4, 3) := dk_167 0 4 (dk_at dksX0_fewest_3 21 rfl rfl)
theorem dX0_fewest_95 : decode cX0_fewest 95 = .ok (.iload_n 3, 1) := dk_29 (dk_at dksX0_fewest_4 0 rfl rfl)
theorem dX0_fewest_96 : decode cX0_fewest 96 = .ok (.ireturn, 1) := dk_172 (dk_at dksX0_fewest_4 1 rfl rfl)
def dkwX0_runsGuarded_1 : List UInt8 := [182, 0, 224, 177]
abbrev dktX0_runsGuarded_1 : List UInt8 := dkwX0_runsGuarded_1 ++ []
def dkwX0_runsGuarded_0 : List UInt8 := [42, 180, 0, 111, 42, 180, 0, 107, 182, 0, 158, 42, 180, 0, 111, 27, 181, 0, 35, 42, 42, 180, 0, 111]
abbrev dktX0_runsGuarded_0 : List UInt8 := dkwX0_runsGuarded_0 ++ dktX0_runsGuarded_1
theorem dksX0_runsGuarded_0 : cX0_runsGuarded.data.toList.drop 0 = dktX0_runsGuarded_0 := by decide +kernel
theorem dksX0_runsGuarded_1 : cX0_runsGuarded.data.toList.drop 24 = dktX0_runsGuarded_1 := dk_seg dksX0_runsGuarded_0 24 rfl rfl
theorem dX0_runsGuarded_0 : decode cX0_runsGuarded 0 = .ok (.aload_n 0, 1) := dk_42 (dk_at dksX0_runsGuarded_0 0 rfl rfl)
theorem dX0_runsGuarded_1 : decode cX0_runsGuarded 1 = .ok (.getfield 111, 3) := dk_180 0 111 (dk_at dksX0_runsGuarded_0 1 rfl rfl)
theorem dX0_runsGuarded_4 : decode cX0_runsGuarded 4 = .ok (.aload_n 0, 1) := dk_42 (dk_at dksX0_runsGuarded_0 4 rfl rfl)
theorem dX0_runsGuarded_5 : decode cX0_runsGuarded 5 = .ok (.getfield 107, 3) := dk_180 0 107 (dk_at dksX0_runsGuarded_0 5 rfl rfl)
theorem dX0_runsGuarded_8 : decode cX0_runsGuarded 8 = .ok (.invokevirtual 158, 3) := dk_182 0 158 (dk_at dksX0_runsGuarded_0 8 rfl rfl)
theorem dX0_runsGuarded_11 : decode cX0_runsGuarded 11 = .ok (.aload_n 0, 1) := dk_42 (dk_at dksX0_runsGuarded_0 11 rfl rfl)
theorem dX0_runsGuarded_12 : decode cX0_runsGuarded 12 = .ok (.getfield 111, 3) := dk_180 0 111 (dk_at dksX0_runsGuarded_0 12 rfl rfl)
theorem dX0_runsGuarded_15 : decode cX0_runsGuarded 15 = .ok (.iload_n 1, 1) := dk_27 (dk_at dksX0_runsGuarded_0 15 rfl rfl)
theorem dX0_runsGuarded_16 : decode cX0_runsGuarded 16 = .ok (.putfield 35, 3) := dk_181 0 35 (dk_at dksX0_runsGuarded_0 16 rfl rfl)
theorem dX0_runsGuarded_19 : decode cX0_runsGuarded 19 = .ok (.aload_n 0, 1) := dk_42 (dk_at dksX0_runsGuarded_0 19 rfl rfl)
theorem dX0_runsGuarded_20 : decode cX0_runsGuarded 20 = .ok (.aload_n 0, 1) := dk_42 (dk_at dksX0_runsGuarded_0 20 rfl rfl)
theorem dX0_runsGuarded_21 : decode cX0_runsGuarded 21 = .ok (.getfield 111, 3) := dk_180 0 111 (dk_at dksX0_runsGuarded_0 21 rfl rfl)
theorem dX0_runsGuarded_24 : decode cX0_runsGuarded 24 = .ok (.invokevirtual 224, 3) := dk_182 0 224 (dk_at dksX0_runsGuarded_1 0 rfl rfl)
theorem dX0_runsGuarded_27 : decode cX0_runsGuarded 27 = .ok (.return_, 1) := dk_177 (dk_at dksX0_runsGuarded_1 3 rfl rfl)
def dkwX0_guards_5 : List UInt8 := [16, 252, 167, 0, 12, 27, 154, 0, 7, 28, 167, 0, 4, 29, 172]
abbrev dktX0_guards_5 : List UInt8 := dkwX0_guards_5 ++ []
def dkwX0_guards_4 : List UInt8 := [42, 180, 0, 111, 182, 0, 230, 167, 0, 4, 28, 61, 132, 4, 1, 167, 255, 166, 29, 16, 252, 160, 0, 8]
abbrev dktX0_guards_4 : List UInt8 := dkwX0_guards_4 ++ dktX0_guards_5
def dkwX0_guards_3 : List UInt8 := [167, 0, 4, 3, 54, 5, 21, 5, 153, 0, 8, 21, 4, 167, 0, 4, 29, 62, 21, 5, 153, 0, 14, 42]
abbrev dktX0_guards_3 : List UInt8 := dkwX0_guards_3 ++ dktX0_guards_4
def dkwX0_guards_2 : List UInt8 := [42, 180, 0, 107, 180, 0, 15, 160, 0, 19, 42, 42, 180, 0, 111, 182, 0, 230, 28, 162, 0, 7, 4]
abbrev dktX0_guards_2 : List UInt8 := dkwX0_guards_2 ++ dktX0_guards_3
def dkwX0_guards_1 : List UInt8 := [180, 0, 107, 180, 0, 188, 120, 162, 0, 82, 42, 21, 4, 182, 0, 243, 42, 42, 180, 0, 111, 182, 0, 234]
abbrev dktX0_guards_1 : List UInt8 := dkwX0_guards_1 ++ dktX0_guards_2
def dkwX0_guards_0 : List UInt8 := [27, 184, 0, 202, 154, 0, 5, 2, 172, 18, 237, 61, 16, 252, 62, 3, 54, 4, 21, 4, 4, 42]
abbrev dktX0_guards_0 : List UInt8 := dkwX0_guards_0 ++ dktX0_guards_1
theorem dksX0_guards_0 : cX0_guards.data.toList.drop 0 = dktX0_guards_0 := by decide +kernel
theorem dksX0_guards_1 : cX0_guards.data.toList.drop 22 = dktX0_guards_1 := dk_seg dksX0_guards_0 22 rfl rfl
theorem dksX0_guards_2 : cX0_guards.data.toList.drop 46 = dktX0_guards_2 := dk_seg dksX0_guards_1 24 rfl rfl
theorem dksX0_guards_3 : cX0_guards.data.toList.drop 69 = dktX0_guards_3 := dk_seg dksX0_guards_2 23 rfl rfl
theorem dksX0_guards_4 : cX0_guards.data.toList.drop 93 = dktX0_guards_4 := dk_seg dksX0_guards_3 24 rfl rfl
theorem dksX0_guards_5 : cX0_guards.data.toList.drop 117 = dktX0_guards_5 := dk_seg dksX0_guards_4 24 rfl rfl
theorem dX0_guards_0 : decode cX0_guards 0 = .ok (.iload_n 1, 1) := dk_27 (dk_at dksX0_guards_0 0 rfl rfl)
theorem dX0_guards_1 : decode cX0_guards 1 = .ok (.invokestatic 202, 3) := dk_184 0 202 (dk_at dksX0_guards_0 1 rfl rfl)
theorem dX0_guards_4 : decode cX0_guards 4 = .ok (.ifCond .ne 5, 3) := dk_154 0 5 (dk_at dksX0_guards_0 4 rfl rfl)
theorem dX0_guards_7 : decode cX0_guards 7 = .ok (.iconst (-1), 1) := dk_2 (dk_at dksX0_guards_0 7 rfl rfl)
theorem dX0_guards_8 : decode cX0_guards 8 = .ok (.ireturn, 1) := dk_172 (dk_at dksX0_guards_0 8 rfl rfl)
theorem dX0_guards_9 : decode cX0_guards 9 = .ok (.ldc 237, 2) := dk_18 237 (dk_at dksX0_guards_0 9 rfl rfl)
theorem dX0_guards_11 : decode cX0_guards 11 = .ok (.istore_n 2, 1) := dk_61 (dk_at dksX0_guards_0 11 rfl rfl)
theorem dX0_guards_12 : decode cX0_guards 12 = .ok (.bipush (-4), 2) := dk_16 252 (dk_at dksX0_guards_0 12 rfl rfl)
theorem dX0_guards_14 : decode cX0_guards 14 = .ok (.istore_n 3, 1) := dk_62 (dk_at dksX0_guards_0 14 rfl rfl)
theorem dX0_guards_15 : decode cX0_guards 15 = .ok (.iconst 0, 1) := dk_3 (dk_at dksX0_guards_0 15 rfl rfl)
theorem dX0_guards_16 : decode cX0_guards 16 = .ok (.istore 4, 2) := dk_54 4 (dk_at dksX0_guards_0 16 rfl rfl)
theorem dX0_guards_18 : decode cX0_guards 18 = .ok (.iload 4, 2) := dk_21 4 (dk_at dksX0_guards_0 18 rfl rfl)
theorem dX0_guards_20 : decode cX0_guards 20 = .ok (.iconst 1, 1) := dk_4 (dk_at dksX0_guards_0 20 rfl rfl)
theorem dX0_guards_21 : decode cX0_guards 21 = .ok (.aload_n 0, 1) := dk_42 (dk_at dksX0_guards_0 21 rfl rfl)
theorem dX0_guards_22 : decode cX0_guards 22 = .ok (.getfield 107, 3) := dk_180 0 107 (dk_at dksX0_guards_1 0 rfl rfl)
theorem dX0_guards_25 : decode cX0_guards 25 = .ok (.getfield 188, 3) := dk_180 0 188 (dk_at dksX0_guards_1 3 rfl rfl)
theorem dX0_guards_28 : decode cX0_guards 28 = .ok (.ishl, 1) := dk_120 (dk_at dksX0_guards_1 6 rfl rfl)
theorem dX0_guards_29 : decode cX0_guards 29 = .ok (.if_icmp .ge 82, 3) := dk_162 0 82 (dk_at dksX0_guards_1 7 rfl rfl)
theorem dX0_guards_32 : decode cX0_guards 32 = .ok (.aload_n 0, 1) := dk_42 (dk_at dksX0_guards_1 10 rfl rfl)
theorem dX0_guards_33 : decode cX0_guards 33 = .ok (.iload 4, 2) := dk_21 4 (dk_at dksX0_guards_1 11 rfl rfl)
theorem dX0_guards_35 : decode cX0_guards 35 = .ok (.invokevirtual 243, 3) := dk_182 0 243 (dk_at dksX0_guards_1 13 rfl rfl)
theorem dX0_guards_38 : decode cX0_guards 38 = .ok (.aload_n 0, 1) := dk_42 (dk_at dksX0_guards_1 16 rfl rfl)
theorem dX0_guards_39 : decode cX0_guards 39 = .ok (.aload_n 0, 1) := dk_42 (dk_at dksX0_guards_1 17 rfl rfl)
theorem dX0_guards_40 : decode cX0_guards 40 = .ok (.getfield 111, 3) := dk_180 0 111 (dk_at dksX0_guards_1 18 rfl rfl)
theorem dX0_guards_43 : decode cX0_guards 43 = .ok (.invokevirtual 234, 3) := dk_182 0 234 (dk_at dksX0_guards_1 21 rfl rfl)
theorem dX0_guards_46 : decode cX0_guards 46 = .ok (.aload_n 0, 1) := dk_42 (dk_at dksX0_guards_2 0 rfl rfl)
theorem dX0_guards_47 : decode cX0_guards 47 = .ok (.getfield 107, 3) := dk_180 0 107 (dk_at dksX0_guards_2 1 rfl rfl)
theorem dX0_guards_50 : decode cX0_guards 50 = .ok (.getfield 15, 3) := dk_180 0 15 (dk_at dksX0_guards_2 4 rfl rfl)
theorem dX0_guards_53 : decode cX0_guards 53 = .ok (.if_icmp .ne 19, 3) := dk_160 0 19 (dk_at dksX0_guards_2 7 rfl rfl)
theorem dX0_guards_56 : decode cX0_guards 56 = .ok (.aload_n 0, 1) := dk_42 (dk_at dksX0_guards_2 10 rfl rfl)
theorem dX0_guards_57 : decode cX0_guards 57 = .ok (.aload_n 0, 1) := dk_42 (dk_at dksX0_guards_2 11 rfl rfl)
theorem dX0_guards_58 : decode cX0_guards 58 = .ok (.getfield 111, 3) := dk_180 0 111 (dk_at dksX0_guards_2 12 rfl rfl)
theorem dX0_guards_61 : decode cX0_guards 61 = .ok (.invokevirtual 230, 3) := dk_182 0 230 (dk_at dksX0_guards_2 15 rfl rfl)
theorem dX0_guards_64 : decode cX0_guards 64 = .ok (.iload_n 2, 1) := dk_28 (dk_at dksX0_guards_2 18 rfl rfl)
theorem dX0_guards_65 : decode cX0_guards 65 = .ok (.if_icmp .ge 7, 3) := dk_162 0 7 (dk_at dksX0_guards_2 19 rfl rfl)
theorem dX0_guards_68 : decode cX0_guards 68 = .ok (.iconst 1, 1) := dk_4 (dk_at dksX0_guards_2 22 rfl rfl)
theorem dX0_guards_69 : decode cX0_guards 69 = .ok (.goto 4, 3) := dk_167 0 4 (dk_at dksX0_guards_3 0 rfl rfl)
theorem dX0_guards_72 : decode cX0_guards 72 = .ok (.iconst 0, 1) := dk_3 (dk_at dksX0_guards_3 3 rfl rfl)
theorem dX0_guards_73 : decode cX0_guards 73 = .ok (.istore 5, 2) := dk_54 5 (dk_at dksX0_guards_3 4 rfl rfl)
theorem dX0_guards_75 : decode cX0_guards 75 = .ok (.iload 5, 2) := dk_21 5 (dk_at dksX0_guards_3 6 rfl rfl)
theorem dX0_guards_77 : decode cX0_guards 77 = .ok (.ifCond .eq 8, 3) := dk_153 0 8 (dk_at dksX0_guards_3 8 rfl rfl)
theorem dX0_guards_80 : decode cX0_guards 80 = .ok (.iload 4, 2) := dk_21 4 (dk_at dksX0_guards_3 11 rfl rfl)
theorem dX0_guards_82 : decode cX0_guards 82 = .ok (.goto 4, 3) := dk_167 0 4 (dk_at dksX0_guards_3 13 rfl rfl)
theorem dX0_guards_85 : decode cX0_guards 85 = .ok (.iload_n 3, 1) := dk_29 (dk_at dksX0_guards_3 16 rfl rfl)
theorem dX0_guards_86 : decode cX0_guards 86 = .ok (.istore_n 3, 1) := dk_62 (dk_at dksX0_guards_3 17 rfl rfl)
theorem dX0_guards_87 : decode cX0_guards 87 = .ok (.iload 5, 2) := dk_21 5 (dk_at dksX0_guards_3 18 rfl rfl)
theorem dX0_guards_89 : decode cX0_guards 89 = .ok (.ifCond .eq 14, 3) := dk_153 0 14 (dk_at dksX0_guards_3 20 rfl rfl)
theorem dX0_guards_92 : decode cX0_guards 92 = .ok (.aload_n 0, 1) := dk_42 (dk_at dksX0_guards_3 23 rfl rfl)
theorem dX0_guards_93 : decode cX0_guards 93 = .ok (.aload_n 0, 1) := dk_42 (dk_at dksX0_guards_4 0 rfl rfl)
theorem dX0_guards_94 : decode cX0_guards 94 = .ok (.getfield 111, 3) := dk_180 0 111 (dk_at dksX0_guards_4 1 rfl rfl)
theorem dX0_guards_97 : decode cX0_guards 97 = .ok (.invokevirtual 230, 3) := dk_182 0 230 (dk_at dksX0_guards_4 4 rfl rfl)
theorem dX0_guards_100 : decode cX0_guards 100 = .ok (.goto 4, 3) := dk_167 0 4 (dk_at dksX0_guards_4 7 rfl rfl)
theorem dX0_guards_103 : decode cX0_guards 103 = .ok (.iload_n 2, 1) := dk_28 (dk_at dksX0_guards_4 10 rfl rfl)
theorem dX0_guards_104 : decode cX0_guards 104 = .ok (.istore_n 2, 1) := dk_61 (dk_at dksX0_guards_4 11 rfl rfl)
theorem dX0_guards_105 : decode cX0_guards 105 = .ok (.iinc 4 1, 3) := dk_132 4 1 (dk_at dksX0_guards_4 12 rfl rfl)
theorem dX0_guards_108 : decode cX0_guards 108 = .ok (.goto (-90), 3) := dk_167 255 166 (dk_at dksX0_guards_4 15 rfl rfl)
theorem dX0_guards_111 : decode cX0_guards 111 = .ok (.iload_n 3, 1) := dk_29 (dk_at dksX0_guards_4 18 rfl rfl)
theorem dX0_guards_112 : decode cX0_guards 112 = .ok (.bipush (-4), 2) := dk_16 252 (dk_at dksX0_guards_4 19 rfl rfl)
theorem dX0_guards_114 : decode cX0_guards 114 = .ok (.if_icmp .ne 8, 3) := dk_160 0 8 (dk_at dksX0_guards_4 21 rfl rfl)
theorem dX0_guards_117 : decode cX0_guards 117 = .ok (.bipush (-4), 2) := dk_16 252 (dk_at dksX0_guards_5 0 rfl rfl)
theorem dX0_guards_119 : decode cX0_guards 119 = .ok (.goto 12, 3) := dk_167 0 12 (dk_at dksX0_guards_5 2 rfl rfl)
theorem dX0_guards_122 : decode cX0_guards 122 = .ok (.iload_n 1, 1) := dk_27 (dk_at dksX0_guards_5 5 rfl rfl)
theorem dX0_guards_123 : decode cX0_guards 123 = .ok (.ifCond .ne 7, 3) := dk_154 0 7 (dk_at dksX0_guards_5 6 rfl rfl)
theorem dX0_guards_126 : decode cX0_guards 126 = .ok (.iload_n 2, 1) := dk_28 (dk_at dksX0_guards_5 9 rfl rfl)
theorem dX0_guards_127 : decode cX0_guards 127 = .ok (.goto 4, 3) := dk_167 0 4 (dk_at dksX0_guards_5 10 rfl rfl)
theorem dX0_guards_130 : decode cX0_guards 130 = .ok (.iload_n 3, 1) := dk_29 (dk_at dksX0_guards_5 13 rfl rfl)
theorem dX0_guards_131 : decode cX0_guards 131 = .ok (.ireturn, 1) := dk_172 (dk_at dksX0_guards_5 14 rfl rfl)
def dkwX0_magpies_6 : List UInt8 := [160, 0, 8, 16, 252, 167, 0, 12, 27, 154, 0, 7, 28, 167, 0, 4, 29, 172]
abbrev dktX0_magpies_6 : List UInt8 := dkwX0_magpies_6 ++ []
def dkwX0_magpies_5 : List UInt8 := [16, 252, 160, 0, 11, 21, 4, 184, 0, 238, 167, 0, 4, 28, 61, 132, 4, 1, 167, 255, 142, 29, 16, 252]
abbrev dktX0_magpies_5 : List UInt8 := dkwX0_magpies_5 ++ dktX0_magpies_6
def dkwX0_magpies_4 : List UInt8 := [182, 0, 247, 42, 180, 0, 41, 16, 252, 160, 0, 8, 21, 4, 167, 0, 4, 29, 62, 42, 180, 0, 41]
abbrev dktX0_magpies_4 : List UInt8 := dkwX0_magpies_4 ++ dktX0_magpies_5
def dkwX0_magpies_3 : List UInt8 := [167, 0, 4, 3, 54, 5, 21, 5, 153, 0, 53, 21, 4, 184, 0, 238, 28, 162, 0, 44, 42, 21, 4]
abbrev dktX0_magpies_3 : List UInt8 := dkwX0_magpies_3 ++ dktX0_magpies_4
def dkwX0_magpies_2 : List UInt8 := [21, 4, 153, 0, 20, 42, 42, 180, 0, 107, 182, 0, 193, 21, 4, 128, 182, 0, 212, 153, 0, 7, 4]
abbrev dktX0_magpies_2 : List UInt8 := dkwX0_magpies_2 ++ dktX0_magpies_3
def dkwX0_magpies_1 : List UInt8 := [180, 0, 107, 180, 0, 188, 120, 162, 0, 106, 21, 4, 42, 180, 0, 107, 182, 0, 193, 126, 154, 0, 29]
abbrev dktX0_magpies_1 : List UInt8 := dkwX0_magpies_1 ++ dktX0_magpies_2
def dkwX0_magpies_0 : List UInt8 := [27, 184, 0, 202, 154, 0, 5, 2, 172, 18, 237, 61, 16, 252, 62, 3, 54, 4, 21, 4, 4, 42]
abbrev dktX0_magpies_0 : List UInt8 := dkwX0_magpies_0 ++ dktX0_magpies_1
theorem dksX0_magpies_0 : cX0_magpies.data.toList.drop 0 = dktX0_magpies_0 := by decide +kernel
theorem dksX0_magpies_1 : cX0_magpies.data.toList.drop 22 = dktX0_magpies_1 := dk_seg dksX0_magpies_0 22 rfl rfl
theorem dksX0_magpies_2 : cX0_magpies.data.toList.drop 45 = dktX0_magpies_2 := dk_seg dksX0_magpies_1 23 rfl rfl
theorem dksX0_magpies_3 : cX0_magpies.data.toList.drop 68 = dktX0_magpies_3 := dk_seg dksX0_magpies_2 23 rfl rfl
theorem dksX0_magpies_4 : cX0_magpies.data.toList.drop 91 = dktX0_magpies_4 := dk_seg dksX0_magpies_3 23 rfl rfl
theorem dksX0_magpies_5 : cX0_magpies.data.toList.drop 114 = dktX0_magpies_5 := dk_seg dksX0_magpies_4 23 rfl rfl
theorem dksX0_magpies_6 : cX0_magpies.data.toList.drop 138 = dktX0_magpies_6 := dk_seg dksX0_magpies_5 24 rfl rfl
theorem dX0_magpies_0 : decode cX0_magpies 0 = .ok (.iload_n 1, 1) := dk_27 (dk_at dksX0_magpies_0 0 rfl rfl)
theorem dX0_magpies_1 : decode cX0_magpies 1 = .ok (.invokestatic 202, 3) := dk_184 0 202 (dk_at dksX0_magpies_0 1 rfl rfl)
theorem dX0_magpies_4 : decode cX0_magpies 4 = .ok (.ifCond .ne 5, 3) := dk_154 0 5 (dk_at dksX0_magpies_0 4 rfl rfl)
theorem dX0_magpies_7 : decode cX0_magpies 7 = .ok (.iconst (-1), 1) := dk_2 (dk_at dksX0_magpies_0 7 rfl rfl)
theorem dX0_magpies_8 : decode cX0_magpies 8 = .ok (.ireturn, 1) := dk_172 (dk_at dksX0_magpies_0 8 rfl rfl)
theorem dX0_magpies_9 : decode cX0_magpies 9 = .ok (.ldc 237, 2) := dk_18 237 (dk_at dksX0_magpies_0 9 rfl rfl)
theorem dX0_magpies_11 : decode cX0_magpies 11 = .ok (.istore_n 2, 1) := dk_61 (dk_at dksX0_magpies_0 11 rfl rfl)
theorem dX0_magpies_12 : decode cX0_magpies 12 = .ok (.bipush (-4), 2) := dk_16 252 (dk_at dksX0_magpies_0 12 rfl rfl)
theorem dX0_magpies_14 : decode cX0_magpies 14 = .ok (.istore_n 3, 1) := dk_62 (dk_at dksX0_magpies_0 14 rfl rfl)
theorem dX0_magpies_15 : decode cX0_magpies 15 = .ok (.iconst 0, 1) := dk_3 (dk_at dksX0_magpies_0 15 rfl rfl)
theorem dX0_magpies_16 : decode cX0_magpies 16 = .ok (.istore 4, 2) := dk_54 4 (dk_at dksX0_magpies_0 16 rfl rfl)
theorem dX0_magpies_18 : decode cX0_magpies 18 = .ok (.iload 4, 2) := dk_21 4 (dk_at dksX0_magpies_0 18 rfl rfl)
theorem dX0_magpies_20 : decode cX0_magpies 20 = .ok (.iconst 1, 1) := dk_4 (dk_at dksX0_magpies_0 20 rfl rfl)
theorem dX0_magpies_21 : decode cX0_magpies 21 = .ok (.aload_n 0, 1) := dk_42 (dk_at dksX0_magpies_0 21 rfl rfl)
theorem dX0_magpies_22 : decode cX0_magpies 22 = .ok (.getfield 107, 3) := dk_180 0 107 (dk_at dksX0_magpies_1 0 rfl rfl)
theorem dX0_magpies_25 : decode cX0_magpies 25 = .ok (.getfield 188, 3) := dk_180 0 188 (dk_at dksX0_magpies_1 3 rfl rfl)
theorem dX0_magpies_28 : decode cX0_magpies 28 = .ok (.ishl, 1) := dk_120 (dk_at dksX0_magpies_1 6 rfl rfl)
theorem dX0_magpies_29 : decode cX0_magpies 29 = .ok (.if_icmp .ge 106, 3) := dk_162 0 106 (dk_at dksX0_magpies_1 7 rfl rfl)
theorem dX0_magpies_32 : decode cX0_magpies 32 = .ok (.iload 4, 2) := dk_21 4 (dk_at dksX0_magpies_1 10 rfl rfl)
theorem dX0_magpies_34 : decode cX0_magpies 34 = .ok (.aload_n 0, 1) := dk_42 (dk_at dksX0_magpies_1 12 rfl rfl)
theorem dX0_magpies_35 : decode cX0_magpies 35 = .ok (.getfield 107, 3) := dk_180 0 107 (dk_at dksX0_magpies_1 13 rfl rfl)
theorem dX0_magpies_38 : decode cX0_magpies 38 = .ok (.invokevirtual 193, 3) := dk_182 0 193 (dk_at dksX0_magpies_1 16 rfl rfl)
theorem dX0_magpies_41 : decode cX0_magpies 41 = .ok (.iand, 1) := dk_126 (dk_at dksX0_magpies_1 19 rfl rfl)
theorem dX0_magpies_42 : decode cX0_magpies 42 = .ok (.ifCond .ne 29, 3) := dk_154 0 29 (dk_at dksX0_magpies_1 20 rfl rfl)
theorem dX0_magpies_45 : decode cX0_magpies 45 = .ok (.iload 4, 2) := dk_21 4 (dk_at dksX0_magpies_2 0 rfl rfl)
theorem dX0_magpies_47 : decode cX0_magpies 47 = .ok (.ifCond .eq 20, 3) := dk_153 0 20 (dk_at dksX0_magpies_2 2 rfl rfl)
theorem dX0_magpies_50 : decode cX0_magpies 50 = .ok (.aload_n 0, 1) := dk_42 (dk_at dksX0_magpies_2 5 rfl rfl)
theorem dX0_magpies_51 : decode cX0_magpies 51 = .ok (.aload_n 0, 1) := dk_42 (dk_at dksX0_magpies_2 6 rfl rfl)
theorem dX0_magpies_52 : decode cX0_magpies 52 = .ok (.getfield 107, 3) := dk_180 0 107 (dk_at dksX0_magpies_2 7 rfl rfl)
theorem dX0_magpies_55 : decode cX0_magpies 55 = .ok (.invokevirtual 193, 3) := dk_182 0 193 (dk_at dksX0_magpies_2 10 rfl rfl)
theorem dX0_magpies_58 : decode cX0_magpies 58 = .ok (.iload 4, 2) := dk_21 4 (dk_at dksX0_magpies_2 13 rfl rfl)
theorem dX0_magpies_60 : decode cX0_magpies 60 = .ok (.ior, 1) := dk_128 (dk_at dksX0_magpies_2 15 rfl rfl)
theorem dX0_magpies_61 : decode cX0_magpies 61 = .ok (.invokevirtual 212, 3) := dk_182 0 212 (dk_at dksX0_magpies_2 16 rfl rfl)
theorem dX0_magpies_64 : decode cX0_magpies 64 = .ok (.ifCond .eq 7, 3) := dk_153 0 7 (dk_at dksX0_magpies_2 19 rfl rfl)
theorem dX0_magpies_67 : decode cX0_magpies 67 = .ok (.iconst 1, 1) := dk_4 (dk_at dksX0_magpies_2 22 rfl rfl)
theorem dX0_magpies_68 : decode cX0_magpies 68 = .ok (.goto 4, 3) := dk_167 0 4 (dk_at dksX0_magpies_3 0 rfl rfl)
theorem dX0_magpies_71 : decode cX0_magpies 71 = .ok (.iconst 0, 1) := dk_3 (dk_at dksX0_magpies_3 3 rfl rfl)
theorem dX0_magpies_72 : decode cX0_magpies 72 = .ok (.istore 5, 2) := dk_54 5 (dk_at dksX0_magpies_3 4 rfl rfl)
theorem dX0_magpies_74 : decode cX0_magpies 74 = .ok (.iload 5, 2) := dk_21 5 (dk_at dksX0_magpies_3 6 rfl rfl)
theorem dX0_magpies_76 : decode cX0_magpies 76 = .ok (.ifCond .eq 53, 3) := dk_153 0 53 (dk_at dksX0_magpies_3 8 rfl rfl)
theorem dX0_magpies_79 : decode cX0_magpies 79 = .ok (.iload 4, 2) := dk_21 4 (dk_at dksX0_magpies_3 11 rfl rfl)
theorem dX0_magpies_81 : decode cX0_magpies 81 = .ok (.invokestatic 238, 3) := dk_184 0 238 (dk_at dksX0_magpies_3 13 rfl rfl)
theorem dX0_magpies_84 : decode cX0_magpies 84 = .ok (.iload_n 2, 1) := dk_28 (dk_at dksX0_magpies_3 16 rfl rfl)
theorem dX0_magpies_85 : decode cX0_magpies 85 = .ok (.if_icmp .ge 44, 3) := dk_162 0 44 (dk_at dksX0_magpies_3 17 rfl rfl)
theorem dX0_magpies_88 : decode cX0_magpies 88 = .ok (.aload_n 0, 1) := dk_42 (dk_at dksX0_magpies_3 20 rfl rfl)
theorem dX0_magpies_89 : decode cX0_magpies 89 = .ok (.iload 4, 2) := dk_21 4 (dk_at dksX0_magpies_3 21 rfl rfl)
theorem dX0_magpies_91 : decode cX0_magpies 91 = .ok (.invokevirtual 247, 3) := dk_182 0 247 (dk_at dksX0_magpies_4 0 rfl rfl)
theorem dX0_magpies_94 : decode cX0_magpies 94 = .ok (.aload_n 0, 1) := dk_42 (dk_at dksX0_magpies_4 3 rfl rfl)
theorem dX0_magpies_95 : decode cX0_magpies 95 = .ok (.getfield 41, 3) := dk_180 0 41 (dk_at dksX0_magpies_4 4 rfl rfl)
theorem dX0_magpies_98 : decode cX0_magpies 98 = .ok (.bipush (-4), 2) := dk_16 252 (dk_at dksX0_magpies_4 7 rfl rfl)
theorem dX0_magpies_100 : decode cX0_magpies 100 = .ok (.if_icmp .ne 8, 3) := dk_160 0 8 (dk_at dksX0_magpies_4 9 rfl rfl)
theorem dX0_magpies_103 : decode cX0_magpies 103 = .ok (.iload 4, 2) := dk_21 4 (dk_at dksX0_magpies_4 12 rfl rfl)
theorem dX0_magpies_105 : decode cX0_magpies 105 = .ok (.goto 4, 3) := dk_167 0 4 (dk_at dksX0_magpies_4 14 rfl rfl)
theorem dX0_magpies_108 : decode cX0_magpies 108 = .ok (.iload_n 3, 1) := dk_29 (dk_at dksX0_magpies_4 17 rfl rfl)
theorem dX0_magpies_109 : decode cX0_magpies 109 = .ok (.istore_n 3, 1) := dk_62 (dk_at dksX0_magpies_4 18 rfl rfl)
theorem dX0_magpies_110 : decode cX0_magpies 110 = .ok (.aload_n 0, 1) := dk_42 (dk_at dksX0_magpies_4 19 rfl rfl)
theorem dX0_magpies_111 : decode cX0_magpies 111 = .ok (.getfield 41, 3) := dk_180 0 41 (dk_at dksX0_magpies_4 20 rfl rfl)
theorem dX0_magpies_114 : decode cX0_magpies 114 = .ok (.bipush (-4), 2) := dk_16 252 (dk_at dksX0_magpies_5 0 rfl rfl)
theorem dX0_magpies_116 : decode cX0_magpies 116 = .ok (.if_icmp .ne 11, 3) := dk_160 0 11 (dk_at dksX0_magpies_5 2 rfl rfl)
theorem dX0_magpies_119 : decode cX0_magpies 119 = .ok (.iload 4, 2) := dk_21 4 (dk_at dksX0_magpies_5 5 rfl rfl)
theorem dX0_magpies_121 : decode cX0_magpies 121 = .ok (.invokestatic 238, 3) := dk_184 0 238 (dk_at dksX0_magpies_5 7 rfl rfl)
theorem dX0_magpies_124 : decode cX0_magpies 124 = .ok (.goto 4, 3) := dk_167 0 4 (dk_at dksX0_magpies_5 10 rfl rfl)
theorem dX0_magpies_127 : decode cX0_magpies 127 = .ok (.iload_n 2, 1) := dk_28 (dk_at dksX0_magpies_5 13 rfl rfl)
theorem dX0_magpies_128 : decode cX0_magpies 128 = .ok (.istore_n 2, 1) := dk_61 (dk_at dksX0_magpies_5 14 rfl rfl)
theorem dX0_magpies_129 : decode cX0_magpies 129 = .ok (.iinc 4 1, 3) := dk_132 4 1 (dk_at dksX0_magpies_5 15 rfl rfl)
theorem dX0_magpies_132 : decode cX0_magpies 132 = .ok (.goto (-114), 3) := dk_167 255 142 (dk_at dksX0_magpies_5 18 rfl rfl)
theorem dX0_magpies_135 : decode cX0_magpies 135 = .ok (.iload_n 3, 1) := dk_29 (dk_at dksX0_magpies_5 21 rfl rfl)
theorem dX0_magpies_136 : decode cX0_magpies 136 = .ok (.bipush (-4), 2) := dk_16 252 (dk_at dksX0_magpies_5 22 rfl rfl)
theorem dX0_magpies_138 : decode cX0_magpies 138 = .ok (.if_icmp .ne 8, 3) := dk_160 0 8 (dk_at dksX0_magpies_6 0 rfl rfl)
theorem dX0_magpies_141 : decode cX0_magpies 141 = .ok (.bipush (-4), 2) := dk_16 252 (dk_at dksX0_magpies_6 3 rfl rfl)
theorem dX0_magpies_143 : decode cX0_magpies 143 = .ok (.goto 12, 3) := dk_167 0 12 (dk_at dksX0_magpies_6 5 rfl rfl)
theorem dX0_magpies_146 : decode cX0_magpies 146 = .ok (.iload_n 1, 1) := dk_27 (dk_at dksX0_magpies_6 8 rfl rfl)
theorem dX0_magpies_147 : decode cX0_magpies 147 = .ok (.ifCond .ne 7, 3) := dk_154 0 7 (dk_at dksX0_magpies_6 9 rfl rfl)
theorem dX0_magpies_150 : decode cX0_magpies 150 = .ok (.iload_n 2, 1) := dk_28 (dk_at dksX0_magpies_6 12 rfl rfl)
theorem dX0_magpies_151 : decode cX0_magpies 151 = .ok (.goto 4, 3) := dk_167 0 4 (dk_at dksX0_magpies_6 13 rfl rfl)
theorem dX0_magpies_154 : decode cX0_magpies 154 = .ok (.iload_n 3, 1) := dk_29 (dk_at dksX0_magpies_6 16 rfl rfl)
theorem dX0_magpies_155 : decode cX0_magpies 155 = .ok (.ireturn, 1) := dk_172 (dk_at dksX0_magpies_6 17 rfl rfl)
def dkwX0_flies_2 : List UInt8 := [180, 0, 67, 28, 51, 84, 132, 2, 1, 167, 255, 212, 42, 42, 180, 0, 111, 182, 0, 224, 177]
abbrev dktX0_flies_2 : List UInt8 := dkwX0_flies_2 ++ []
def dkwX0_flies_1 : List UInt8 := [42, 180, 0, 111, 180, 0, 67, 28, 27, 28, 184, 0, 11, 153, 0, 7, 4, 167, 0, 12, 42, 180, 0, 107]
abbrev dktX0_flies_1 : List UInt8 := dkwX0_flies_1 ++ dktX0_flies_2
def dkwX0_flies_0 : List UInt8 := [42, 180, 0, 111, 42, 180, 0, 107, 182, 0, 158, 3, 61, 28, 42, 180, 0, 107, 180, 0, 188, 162, 0, 39]
abbrev dktX0_flies_0 : List UInt8 := dkwX0_flies_0 ++ dktX0_flies_1
theorem dksX0_flies_0 : cX0_flies.data.toList.drop 0 = dktX0_flies_0 := by decide +kernel
theorem dksX0_flies_1 : cX0_flies.data.toList.drop 24 = dktX0_flies_1 := dk_seg dksX0_flies_0 24 rfl rfl
theorem dksX0_flies_2 : cX0_flies.data.toList.drop 48 = dktX0_flies_2 := dk_seg dksX0_flies_1 24 rfl rfl
theorem dX0_flies_0 : decode cX0_flies 0 = .ok (.aload_n 0, 1) := dk_42 (dk_at dksX0_flies_0 0 rfl rfl)
theorem dX0_flies_1 : decode cX0_flies 1 = .ok (.getfield 111, 3) := dk_180 0 111 (dk_at dksX0_flies_0 1 rfl rfl)
theorem dX0_flies_4 : decode cX0_flies 4 = .ok (.aload_n 0, 1) := dk_42 (dk_at dksX0_flies_0 4 rfl rfl)
theorem dX0_flies_5 : decode cX0_flies 5 = .ok (.getfield 107, 3) := dk_180 0 107 (dk_at dksX0_flies_0 5 rfl rfl)
theorem dX0_flies_8 : decode cX0_flies 8 = .ok (.invokevirtual 158, 3) := dk_182 0 158 (dk_at dksX0_flies_0 8 rfl rfl)
theorem dX0_flies_11 : decode cX0_flies 11 = .ok (.iconst 0, 1) := dk_3 (dk_at dksX0_flies_0 11 rfl rfl)
theorem dX0_flies_12 : decode cX0_flies 12 = .ok (.istore_n 2, 1) := dk_61 (dk_at dksX0_flies_0 12 rfl rfl)
theorem dX0_flies_13 : decode cX0_flies 13 = .ok (.iload_n 2, 1) := dk_28 (dk_at dksX0_flies_0 13 rfl rfl)
theorem dX0_flies_14 : decode cX0_flies 14 = .ok (.aload_n 0, 1) := dk_42 (dk_at dksX0_flies_0 14 rfl rfl)
theorem dX0_flies_15 : decode cX0_flies 15 = .ok (.getfield 107, 3) := dk_180 0 107 (dk_at dksX0_flies_0 15 rfl rfl)
theorem dX0_flies_18 : decode cX0_flies 18 = .ok (.getfield 188, 3) := dk_180 0 188 (dk_at dksX0_flies_0 18 rfl rfl)
theorem dX0_flies_21 : decode cX0_flies 21 = .ok (.if_icmp .ge 39, 3) := dk_162 0 39 (dk_at dksX0_flies_0 21 rfl rfl)
theorem dX0_flies_24 : decode cX0_flies 24 = .ok (.aload_n 0, 1) := dk_42 (dk_at dksX0_flies_1 0 rfl rfl)
theorem dX0_flies_25 : decode cX0_flies 25 = .ok (.getfield 111, 3) := dk_180 0 111 (dk_at dksX0_flies_1 1 rfl rfl)
theorem dX0_flies_28 : decode cX0_flies 28 = .ok (.getfield 67, 3) := dk_180 0 67 (dk_at dksX0_flies_1 4 rfl rfl)
theorem dX0_flies_31 : decode cX0_flies 31 = .ok (.iload_n 2, 1) := dk_28 (dk_at dksX0_flies_1 7 rfl rfl)
theorem dX0_flies_32 : decode cX0_flies 32 = .ok (.iload_n 1, 1) := dk_27 (dk_at dksX0_flies_1 8 rfl rfl)
theorem dX0_flies_33 : decode cX0_flies 33 = .ok (.iload_n 2, 1) := dk_28 (dk_at dksX0_flies_1 9 rfl rfl)
theorem dX0_flies_34 : decode cX0_flies 34 = .ok (.invokestatic 11, 3) := dk_184 0 11 (dk_at dksX0_flies_1 10 rfl rfl)
theorem dX0_flies_37 : decode cX0_flies 37 = .ok (.ifCond .eq 7, 3) := dk_153 0 7 (dk_at dksX0_flies_1 13 rfl rfl)
theorem dX0_flies_40 : decode cX0_flies 40 = .ok (.iconst 1, 1) := dk_4 (dk_at dksX0_flies_1 16 rfl rfl)
theorem dX0_flies_41 : decode cX0_flies 41 = .ok (.goto 12, 3) := dk_167 0 12 (dk_at dksX0_flies_1 17 rfl rfl)
theorem dX0_flies_44 : decode cX0_flies 44 = .ok (.aload_n 0, 1) := dk_42 (dk_at dksX0_flies_1 20 rfl rfl)
theorem dX0_flies_45 : decode cX0_flies 45 = .ok (.getfield 107, 3) := dk_180 0 107 (dk_at dksX0_flies_1 21 rfl rfl)
theorem dX0_flies_48 : decode cX0_flies 48 = .ok (.getfield 67, 3) := dk_180 0 67 (dk_at dksX0_flies_2 0 rfl rfl)
theorem dX0_flies_51 : decode cX0_flies 51 = .ok (.iload_n 2, 1) := dk_28 (dk_at dksX0_flies_2 3 rfl rfl)
theorem dX0_flies_52 : decode cX0_flies 52 = .ok (.baload, 1) := dk_51 (dk_at dksX0_flies_2 4 rfl rfl)
theorem dX0_flies_53 : decode cX0_flies 53 = .ok (.bastore, 1) := dk_84 (dk_at dksX0_flies_2 5 rfl rfl)
theorem dX0_flies_54 : decode cX0_flies 54 = .ok (.iinc 2 1, 3) := dk_132 2 1 (dk_at dksX0_flies_2 6 rfl rfl)
theorem dX0_flies_57 : decode cX0_flies 57 = .ok (.goto (-44), 3) := dk_167 255 212 (dk_at dksX0_flies_2 9 rfl rfl)
theorem dX0_flies_60 : decode cX0_flies 60 = .ok (.aload_n 0, 1) := dk_42 (dk_at dksX0_flies_2 12 rfl rfl)
theorem dX0_flies_61 : decode cX0_flies 61 = .ok (.aload_n 0, 1) := dk_42 (dk_at dksX0_flies_2 13 rfl rfl)
theorem dX0_flies_62 : decode cX0_flies 62 = .ok (.getfield 111, 3) := dk_180 0 111 (dk_at dksX0_flies_2 14 rfl rfl)
theorem dX0_flies_65 : decode cX0_flies 65 = .ok (.invokevirtual 224, 3) := dk_182 0 224 (dk_at dksX0_flies_2 17 rfl rfl)
theorem dX0_flies_68 : decode cX0_flies 68 = .ok (.return_, 1) := dk_177 (dk_at dksX0_flies_2 20 rfl rfl)
def dkwX0_starts_7 : List UInt8 := [182, 0, 64, 172]
abbrev dktX0_starts_7 : List UInt8 := dkwX0_starts_7 ++ []
def dkwX0_starts_6 : List UInt8 := [160, 0, 8, 16, 252, 167, 0, 4, 28, 172, 42, 29, 182, 0, 253, 42, 180, 0, 111, 27, 16, 10, 100, 5]
abbrev dktX0_starts_6 : List UInt8 := dkwX0_starts_6 ++ dktX0_starts_7
def dkwX0_starts_5 : List UInt8 := [167, 0, 4, 28, 61, 132, 4, 1, 167, 255, 156, 29, 16, 252, 159, 0, 7, 27, 154, 0, 16, 29, 16, 252]
abbrev dktX0_starts_5 : List UInt8 := dkwX0_starts_5 ++ dktX0_starts_6
def dkwX0_starts_4 : List UInt8 := [153, 0, 8, 21, 4, 167, 0, 4, 29, 62, 21, 5, 153, 0, 14, 42, 42, 180, 0, 111, 182, 0, 230]
abbrev dktX0_starts_4 : List UInt8 := dkwX0_starts_4 ++ dktX0_starts_5
def dkwX0_starts_3 : List UInt8 := [160, 0, 19, 42, 42, 180, 0, 111, 182, 0, 230, 28, 162, 0, 7, 4, 167, 0, 4, 3, 54, 5, 21, 5]
abbrev dktX0_starts_3 : List UInt8 := dkwX0_starts_3 ++ dktX0_starts_4
def dkwX0_starts_2 : List UInt8 := [42, 42, 180, 0, 111, 182, 0, 224, 42, 42, 180, 0, 111, 182, 0, 234, 42, 180, 0, 107, 180, 0, 15]
abbrev dktX0_starts_2 : List UInt8 := dkwX0_starts_2 ++ dktX0_starts_3
def dkwX0_starts_1 : List UInt8 := [54, 4, 21, 4, 7, 42, 180, 0, 107, 180, 0, 15, 184, 0, 250, 162, 0, 90, 42, 21, 4, 182, 0, 253]
abbrev dktX0_starts_1 : List UInt8 := dkwX0_starts_1 ++ dktX0_starts_2
def dkwX0_starts_0 : List UInt8 := [27, 153, 0, 16, 42, 27, 16, 10, 100, 182, 0, 205, 154, 0, 5, 2, 172, 18, 237, 61, 16, 252, 62, 3]
abbrev dktX0_starts_0 : List UInt8 := dkwX0_starts_0 ++ dktX0_starts_1
theorem dksX0_starts_0 : cX0_starts.data.toList.drop 0 = dktX0_starts_0 := by decide +kernel
theorem dksX0_starts_1 : cX0_starts.data.toList.drop 24 = dktX0_starts_1 := dk_seg dksX0_starts_0 24 rfl rfl
theorem dksX0_starts_2 : cX0_starts.data.toList.drop 48 = dktX0_starts_2 := dk_seg dksX0_starts_1 24 rfl rfl
theorem dksX0_starts_3 : cX0_starts.data.toList.drop 71 = dktX0_starts_3 := dk_seg dksX0_starts_2 23 rfl rfl
theorem dksX0_starts_4 : cX0_starts.data.toList.drop 95 = dktX0_starts_4 := dk_seg dksX0_starts_3 24 rfl rfl
theorem dksX0_starts_5 : cX0_starts.data.toList.drop 118 = dktX0_starts_5 := dk_seg dksX0_starts_4 23 rfl rfl
theorem dksX0_starts_6 : cX0_starts.data.toList.drop 142 = dktX0_starts_6 := dk_seg dksX0_starts_5 24 rfl rfl
theorem dksX0_starts_7 : cX0_starts.data.toList.drop 166 = dktX0_starts_7 := dk_seg dksX0_starts_6 24 rfl rfl
theorem dX0_starts_0 : decode cX0_starts 0 = .ok (.iload_n 1, 1) := dk_27 (dk_at dksX0_starts_0 0 rfl rfl)
theorem dX0_starts_1 : decode cX0_starts 1 = .ok (.ifCond .eq 16, 3) := dk_153 0 16 (dk_at dksX0_starts_0 1 rfl rfl)
theorem dX0_starts_4 : decode cX0_starts 4 = .ok (.aload_n 0, 1) := dk_42 (dk_at dksX0_starts_0 4 rfl rfl)
theorem dX0_starts_5 : decode cX0_starts 5 = .ok (.iload_n 1, 1) := dk_27 (dk_at dksX0_starts_0 5 rfl rfl)
theorem dX0_starts_6 : decode cX0_starts 6 = .ok (.bipush 10, 2) := dk_16 10 (dk_at dksX0_starts_0 6 rfl rfl)
theorem dX0_starts_8 : decode cX0_starts 8 = .ok (.isub, 1) := dk_100 (dk_at dksX0_starts_0 8 rfl rfl)
theorem dX0_starts_9 : decode cX0_starts 9 = .ok (.invokevirtual 205, 3) := dk_182 0 205 (dk_at dksX0_starts_0 9 rfl rfl)
theorem dX0_starts_12 : decode cX0_starts 12 = .ok (.ifCond .ne 5, 3) := dk_154 0 5 (dk_at dksX0_starts_0 12 rfl rfl)
theorem dX0_starts_15 : decode cX0_starts 15 = .ok (.iconst (-1), 1) := dk_2 (dk_at dksX0_starts_0 15 rfl rfl)
theorem dX0_starts_16 : decode cX0_starts 16 = .ok (.ireturn, 1) := dk_172 (dk_at dksX0_starts_0 16 rfl rfl)
theorem dX0_starts_17 : decode cX0_starts 17 = .ok (.ldc 237, 2) := dk_18 237 (dk_at dksX0_starts_0 17 rfl rfl)
theorem dX0_starts_19 : decode cX0_starts 19 = .ok (.istore_n 2, 1) := dk_61 (dk_at dksX0_starts_0 19 rfl rfl)
theorem dX0_starts_20 : decode cX0_starts 20 = .ok (.bipush (-4), 2) := dk_16 252 (dk_at dksX0_starts_0 20 rfl rfl)
theorem dX0_starts_22 : decode cX0_starts 22 = .ok (.istore_n 3, 1) := dk_62 (dk_at dksX0_starts_0 22 rfl rfl)
theorem dX0_starts_23 : decode cX0_starts 23 = .ok (.iconst 0, 1) := dk_3 (dk_at dksX0_starts_0 23 rfl rfl)
theorem dX0_starts_24 : decode cX0_starts 24 = .ok (.istore 4, 2) := dk_54 4 (dk_at dksX0_starts_1 0 rfl rfl)
theorem dX0_starts_26 : decode cX0_starts 26 = .ok (.iload 4, 2) := dk_21 4 (dk_at dksX0_starts_1 2 rfl rfl)
theorem dX0_starts_28 : decode cX0_starts 28 = .ok (.iconst 4, 1) := dk_7 (dk_at dksX0_starts_1 4 rfl rfl)
theorem dX0_starts_29 : decode cX0_starts 29 = .ok (.aload_n 0, 1) := dk_42 (dk_at dksX0_starts_1 5 rfl rfl)
theorem dX0_starts_30 : decode cX0_starts 30 = .ok (.getfield 107, 3) := dk_180 0 107 (dk_at dksX0_starts_1 6 rfl rfl)
theorem dX0_starts_33 : decode cX0_starts 33 = .ok (.getfield 15, 3) := dk_180 0 15 (dk_at dksX0_starts_1 9 rfl rfl)
theorem dX0_starts_36 : decode cX0_starts 36 = .ok (.invokestatic 250, 3) := dk_184 0 250 (dk_at dksX0_starts_1 12 rfl rfl)
theorem dX0_starts_39 : decode cX0_starts 39 = .ok (.if_icmp .ge 90, 3) := dk_162 0 90 (dk_at dksX0_starts_1 15 rfl rfl)
theorem dX0_starts_42 : decode cX0_starts 42 = .ok (.aload_n 0, 1) := dk_42 (dk_at dksX0_starts_1 18 rfl rfl)
theorem dX0_starts_43 : decode cX0_starts 43 = .ok (.iload 4, 2) := dk_21 4 (dk_at dksX0_starts_1 19 rfl rfl)
theorem dX0_starts_45 : decode cX0_starts 45 = .ok (.invokevirtual 253, 3) := dk_182 0 253 (dk_at dksX0_starts_1 21 rfl rfl)
theorem dX0_starts_48 : decode cX0_starts 48 = .ok (.aload_n 0, 1) := dk_42 (dk_at dksX0_starts_2 0 rfl rfl)
theorem dX0_starts_49 : decode cX0_starts 49 = .ok (.aload_n 0, 1) := dk_42 (dk_at dksX0_starts_2 1 rfl rfl)
theorem dX0_starts_50 : decode cX0_starts 50 = .ok (.getfield 111, 3) := dk_180 0 111 (dk_at dksX0_starts_2 2 rfl rfl)
theorem dX0_starts_53 : decode cX0_starts 53 = .ok (.invokevirtual 224, 3) := dk_182 0 224 (dk_at dksX0_starts_2 5 rfl rfl)
theorem dX0_starts_56 : decode cX0_starts 56 = .ok (.aload_n 0, 1) := dk_42 (dk_at dksX0_starts_2 8 rfl rfl)
theorem dX0_starts_57 : decode cX0_starts 57 = .ok (.aload_n 0, 1) := dk_42 (dk_at dksX0_starts_2 9 rfl rfl)
theorem dX0_starts_58 : decode cX0_starts 58 = .ok (.getfield 111, 3) := dk_180 0 111 (dk_at dksX0_starts_2 10 rfl rfl)
theorem dX0_starts_61 : decode cX0_starts 61 = .ok (.invokevirtual 234, 3) := dk_182 0 234 (dk_at dksX0_starts_2 13 rfl rfl)
theorem dX0_starts_64 : decode cX0_starts 64 = .ok (.aload_n 0, 1) := dk_42 (dk_at dksX0_starts_2 16 rfl rfl)
theorem dX0_starts_65 : decode cX0_starts 65 = .ok (.getfield 107, 3) := dk_180 0 107 (dk_at dksX0_starts_2 17 rfl rfl)
theorem dX0_starts_68 : decode cX0_starts 68 = .ok (.getfield 15, 3) := dk_180 0 15 (dk_at dksX0_starts_2 20 rfl rfl)
theorem dX0_starts_71 : decode cX0_starts 71 = .ok (.if_icmp .ne 19, 3) := dk_160 0 19 (dk_at dksX0_starts_3 0 rfl rfl)
theorem dX0_starts_74 : decode cX0_starts 74 = .ok (.aload_n 0, 1) := dk_42 (dk_at dksX0_starts_3 3 rfl rfl)
theorem dX0_starts_75 : decode cX0_starts 75 = .ok (.aload_n 0, 1) := dk_42 (dk_at dksX0_starts_3 4 rfl rfl)
theorem dX0_starts_76 : decode cX0_starts 76 = .ok (.getfield 111, 3) := dk_180 0 111 (dk_at dksX0_starts_3 5 rfl rfl)
theorem dX0_starts_79 : decode cX0_starts 79 = .ok (.invokevirtual 230, 3) := dk_182 0 230 (dk_at dksX0_starts_3 8 rfl rfl)
theorem dX0_starts_82 : decode cX0_starts 82 = .ok (.iload_n 2, 1) := dk_28 (dk_at dksX0_starts_3 11 rfl rfl)
theorem dX0_starts_83 : decode cX0_starts 83 = .ok (.if_icmp .ge 7, 3) := dk_162 0 7 (dk_at dksX0_starts_3 12 rfl rfl)
theorem dX0_starts_86 : decode cX0_starts 86 = .ok (.iconst 1, 1) := dk_4 (dk_at dksX0_starts_3 15 rfl rfl)
theorem dX0_starts_87 : decode cX0_starts 87 = .ok (.goto 4, 3) := dk_167 0 4 (dk_at dksX0_starts_3 16 rfl rfl)
theorem dX0_starts_90 : decode cX0_starts 90 = .ok (.iconst 0, 1) := dk_3 (dk_at dksX0_starts_3 19 rfl rfl)
theorem dX0_starts_91 : decode cX0_starts 91 = .ok (.istore 5, 2) := dk_54 5 (dk_at dksX0_starts_3 20 rfl rfl)
theorem dX0_starts_93 : decode cX0_starts 93 = .ok (.iload 5, 2) := dk_21 5 (dk_at dksX0_starts_3 22 rfl rfl)
theorem dX0_starts_95 : decode cX0_starts 95 = .ok (.ifCond .eq 8, 3) := dk_153 0 8 (dk_at dksX0_starts_4 0 rfl rfl)
theorem dX0_starts_98 : decode cX0_starts 98 = .ok (.iload 4, 2) := dk_21 4 (dk_at dksX0_starts_4 3 rfl rfl)
theorem dX0_starts_100 : decode cX0_starts 100 = .ok (.goto 4, 3) := dk_167 0 4 (dk_at dksX0_starts_4 5 rfl rfl)
theorem dX0_starts_103 : decode cX0_starts 103 = .ok (.iload_n 3, 1) := dk_29 (dk_at dksX0_starts_4 8 rfl rfl)
theorem dX0_starts_104 : decode cX0_starts 104 = .ok (.istore_n 3, 1) := dk_62 (dk_at dksX0_starts_4 9 rfl rfl)
theorem dX0_starts_105 : decode cX0_starts 105 = .ok (.iload 5, 2) := dk_21 5 (dk_at dksX0_starts_4 10 rfl rfl)
theorem dX0_starts_107 : decode cX0_starts 107 = .ok (.ifCond .eq 14, 3) := dk_153 0 14 (dk_at dksX0_starts_4 12 rfl rfl)
theorem dX0_starts_110 : decode cX0_starts 110 = .ok (.aload_n 0, 1) := dk_42 (dk_at dksX0_starts_4 15 rfl rfl)
theorem dX0_starts_111 : decode cX0_starts 111 = .ok (.aload_n 0, 1) := dk_42 (dk_at dksX0_starts_4 16 rfl rfl)
theorem dX0_starts_112 : decode cX0_starts 112 = .ok (.getfield 111, 3) := dk_180 0 111 (dk_at dksX0_starts_4 17 rfl rfl)
theorem dX0_starts_115 : decode cX0_starts 115 = .ok (.invokevirtual 230, 3) := dk_182 0 230 (dk_at dksX0_starts_4 20 rfl rfl)
theorem dX0_starts_118 : decode cX0_starts 118 = .ok (.goto 4, 3) := dk_167 0 4 (dk_at dksX0_starts_5 0 rfl rfl)
theorem dX0_starts_121 : decode cX0_starts 121 = .ok (.iload_n 2, 1) := dk_28 (dk_at dksX0_starts_5 3 rfl rfl)
theorem dX0_starts_122 : decode cX0_starts 122 = .ok (.istore_n 2, 1) := dk_61 (dk_at dksX0_starts_5 4 rfl rfl)
theorem dX0_starts_123 : decode cX0_starts 123 = .ok (.iinc 4 1, 3) := dk_132 4 1 (dk_at dksX0_starts_5 5 rfl rfl)
theorem dX0_starts_126 : decode cX0_starts 126 = .ok (.goto (-100), 3) := dk_167 255 156 (dk_at dksX0_starts_5 8 rfl rfl)
theorem dX0_starts_129 : decode cX0_starts 129 = .ok (.iload_n 3, 1) := dk_29 (dk_at dksX0_starts_5 11 rfl rfl)
theorem dX0_starts_130 : decode cX0_starts 130 = .ok (.bipush (-4), 2) := dk_16 252 (dk_at dksX0_starts_5 12 rfl rfl)
theorem dX0_starts_132 : decode cX0_starts 132 = .ok (.if_icmp .eq 7, 3) := dk_159 0 7 (dk_at dksX0_starts_5 14 rfl rfl)
theorem dX0_starts_135 : decode cX0_starts 135 = .ok (.iload_n 1, 1) := dk_27 (dk_at dksX0_starts_5 17 rfl rfl)
theorem dX0_starts_136 : decode cX0_starts 136 = .ok (.ifCond .ne 16, 3) := dk_154 0 16 (dk_at dksX0_starts_5 18 rfl rfl)
theorem dX0_starts_139 : decode cX0_starts 139 = .ok (.iload_n 3, 1) := dk_29 (dk_at dksX0_starts_5 21 rfl rfl)
theorem dX0_starts_140 : decode cX0_starts 140 = .ok (.bipush (-4), 2) := dk_16 252 (dk_at dksX0_starts_5 22 rfl rfl)
theorem dX0_starts_142 : decode cX0_starts 142 = .ok (.if_icmp .ne 8, 3) := dk_160 0 8 (dk_at dksX0_starts_6 0 rfl rfl)
theorem dX0_starts_145 : decode cX0_starts 145 = .ok (.bipush (-4), 2) := dk_16 252 (dk_at dksX0_starts_6 3 rfl rfl)
theorem dX0_starts_147 : decode cX0_starts 147 = .ok (.goto 4, 3) := dk_167 0 4 (dk_at dksX0_starts_6 5 rfl rfl)
theorem dX0_starts_150 : decode cX0_starts 150 = .ok (.iload_n 2, 1) := dk_28 (dk_at dksX0_starts_6 8 rfl rfl)
theorem dX0_starts_151 : decode cX0_starts 151 = .ok (.ireturn, 1) := dk_172 (dk_at dksX0_starts_6 9 rfl rfl)
theorem dX0_starts_152 : decode cX0_starts 152 = .ok (.aload_n 0, 1) := dk_42 (dk_at dksX0_starts_6 10 rfl rfl)
theorem dX0_starts_153 : decode cX0_starts 153 = .ok (.iload_n 3, 1) := dk_29 (dk_at dksX0_starts_6 11 rfl rfl)
theorem dX0_starts_154 : decode cX0_starts 154 = .ok (.invokevirtual 253, 3) := dk_182 0 253 (dk_at dksX0_starts_6 12 rfl rfl)
theorem dX0_starts_157 : decode cX0_starts 157 = .ok (.aload_n 0, 1) := dk_42 (dk_at dksX0_starts_6 15 rfl rfl)
theorem dX0_starts_158 : decode cX0_starts 158 = .ok (.getfield 111, 3) := dk_180 0 111 (dk_at dksX0_starts_6 16 rfl rfl)
theorem dX0_starts_161 : decode cX0_starts 161 = .ok (.iload_n 1, 1) := dk_27 (dk_at dksX0_starts_6 19 rfl rfl)
theorem dX0_starts_162 : decode cX0_starts 162 = .ok (.bipush 10, 2) := dk_16 10 (dk_at dksX0_starts_6 20 rfl rfl)
theorem dX0_starts_164 : decode cX0_starts 164 = .ok (.isub, 1) := dk_100 (dk_at dksX0_starts_6 22 rfl rfl)
theorem dX0_starts_165 : decode cX0_starts 165 = .ok (.iconst 2, 1) := dk_5 (dk_at dksX0_starts_6 23 rfl rfl)
theorem dX0_starts_166 : decode cX0_starts 166 = .ok (.invokevirtual 64, 3) := dk_182 0 64 (dk_at dksX0_starts_7 0 rfl rfl)
theorem dX0_starts_169 : decode cX0_starts 169 = .ok (.ireturn, 1) := dk_172 (dk_at dksX0_starts_7 3 rfl rfl)
def dkwX0_power_0 : List UInt8 := [4, 61, 3, 62, 29, 27, 162, 0, 13, 28, 26, 104, 61, 132, 3, 1, 167, 255, 244, 28, 172]
abbrev dktX0_power_0 : List UInt8 := dkwX0_power_0 ++ []
theorem dksX0_power_0 : cX0_power.data.toList.drop 0 = dktX0_power_0 := by decide +kernel
theorem dX0_power_0 : decode cX0_power 0 = .ok (.iconst 1, 1) := dk_4 (dk_at dksX0_power_0 0 rfl rfl)
theorem dX0_power_1 : decode cX0_power 1 = .ok (.istore_n 2, 1) := dk_61 (dk_at dksX0_power_0 1 rfl rfl)
theorem dX0_power_2 : decode cX0_power 2 = .ok (.iconst 0, 1) := dk_3 (dk_at dksX0_power_0 2 rfl rfl)
theorem dX0_power_3 : decode cX0_power 3 = .ok (.istore_n 3, 1) := dk_62 (dk_at dksX0_power_0 3 rfl rfl)
theorem dX0_power_4 : decode cX0_power 4 = .ok (.iload_n 3, 1) := dk_29 (dk_at dksX0_power_0 4 rfl rfl)
theorem dX0_power_5 : decode cX0_power 5 = .ok (.iload_n 1, 1) := dk_27 (dk_at dksX0_power_0 5 rfl rfl)
theorem dX0_power_6 : decode cX0_power 6 = .ok (.if_icmp .ge 13, 3) := dk_162 0 13 (dk_at dksX0_power_0 6 rfl rfl)
theorem dX0_power_9 : decode cX0_power 9 = .ok (.iload_n 2, 1) := dk_28 (dk_at dksX0_power_0 9 rfl rfl)
theorem dX0_power_10 : decode cX0_power 10 = .ok (.iload_n 0, 1) := dk_26 (dk_at dksX0_power_0 10 rfl rfl)
theorem dX0_power_11 : decode cX0_power 11 = .ok (.imul, 1) := dk_104 (dk_at dksX0_power_0 11 rfl rfl)
theorem dX0_power_12 : decode cX0_power 12 = .ok (.istore_n 2, 1) := dk_61 (dk_at dksX0_power_0 12 rfl rfl)
theorem dX0_power_13 : decode cX0_power 13 = .ok (.iinc 3 1, 3) := dk_132 3 1 (dk_at dksX0_power_0 13 rfl rfl)
theorem dX0_power_16 : decode cX0_power 16 = .ok (.goto (-12), 3) := dk_167 255 244 (dk_at dksX0_power_0 16 rfl rfl)
theorem dX0_power_19 : decode cX0_power 19 = .ok (.iload_n 2, 1) := dk_28 (dk_at dksX0_power_0 19 rfl rfl)
theorem dX0_power_20 : decode cX0_power 20 = .ok (.ireturn, 1) := dk_172 (dk_at dksX0_power_0 20 rfl rfl)
def dkwX0_startsBy_2 : List UInt8 := [132, 3, 255, 167, 255, 228, 177]
abbrev dktX0_startsBy_2 : List UInt8 := dkwX0_startsBy_2 ++ []
def dkwX0_startsBy_1 : List UInt8 := [155, 0, 30, 42, 180, 0, 111, 180, 0, 221, 7, 29, 104, 5, 96, 28, 7, 112, 145, 84, 28, 7, 108, 61]
abbrev dktX0_startsBy_1 : List UInt8 := dkwX0_startsBy_1 ++ dktX0_startsBy_2
def dkwX0_startsBy_0 : List UInt8 := [27, 61, 42, 180, 0, 111, 42, 180, 0, 107, 182, 0, 158, 42, 180, 0, 107, 180, 0, 15, 4, 100, 62, 29]
abbrev dktX0_startsBy_0 : List UInt8 := dkwX0_startsBy_0 ++ dktX0_startsBy_1
theorem dksX0_startsBy_0 : cX0_startsBy.data.toList.drop 0 = dktX0_startsBy_0 := by decide +kernel
theorem dksX0_startsBy_1 : cX0_startsBy.data.toList.drop 24 = dktX0_startsBy_1 := dk_seg dksX0_startsBy_0 24 rfl rfl
theorem dksX0_startsBy_2 : cX0_startsBy.data.toList.drop 48 = dktX0_startsBy_2 := dk_seg dksX0_startsBy_1 24 rfl rfl
theorem dX0_startsBy_0 : decode cX0_startsBy 0 = .ok (.iload_n 1, 1) := dk_27 (dk_at dksX0_startsBy_0 0 rfl rfl)
theorem dX0_startsBy_1 : decode cX0_startsBy 1 = .ok (.istore_n 2, 1) := dk_61 (dk_at dksX0_startsBy_0 1 rfl rfl)
theorem dX0_startsBy_2 : decode cX0_startsBy 2 = .ok (.aload_n 0, 1) := dk_42 (dk_at dksX0_startsBy_0 2 rfl rfl)
theorem dX0_startsBy_3 : decode cX0_startsBy 3 = .ok (.getfield 111, 3) := dk_180 0 111 (dk_at dksX0_startsBy_0 3 rfl rfl)
theorem dX0_startsBy_6 : decode cX0_startsBy 6 = .ok (.aload_n 0, 1) := dk_42 (dk_at dksX0_startsBy_0 6 rfl rfl)
theorem dX0_startsBy_7 : decode cX0_startsBy 7 = .ok (.getfield 107, 3) := dk_180 0 107 (dk_at dksX0_startsBy_0 7 rfl rfl)
theorem dX0_startsBy_10 : decode cX0_startsBy 10 = .ok (.invokevirtual 158, 3) := dk_182 0 158 (dk_at dksX0_startsBy_0 10 rfl rfl)
theorem dX0_startsBy_13 : decode cX0_startsBy 13 = .ok (.aload_n 0, 1) := dk_42 (dk_at dksX0_startsBy_0 13 rfl rfl)
theorem dX0_startsBy_14 : decode cX0_startsBy 14 = .ok (.getfield 107, 3) := dk_180 0 107 (dk_at dksX0_startsBy_0 14 rfl rfl)
theorem dX0_startsBy_17 : decode cX0_startsBy 17 = .ok (.getfield 15, 3) := dk_180 0 15 (dk_at dksX0_startsBy_0 17 rfl rfl)
theorem dX0_startsBy_20 : decode cX0_startsBy 20 = .ok (.iconst 1, 1) := dk_4 (dk_at dksX0_startsBy_0 20 rfl rfl)
theorem dX0_startsBy_21 : decode cX0_startsBy 21 = .ok (.isub, 1) := dk_100 (dk_at dksX0_startsBy_0 21 rfl rfl)
theorem dX0_startsBy_22 : decode cX0_startsBy 22 = .ok (.istore_n 3, 1) := dk_62 (dk_at dksX0_startsBy_0 22 rfl rfl)
theorem dX0_startsBy_23 : decode cX0_startsBy 23 = .ok (.iload_n 3, 1) := dk_29 (dk_at dksX0_startsBy_0 23 rfl rfl)
theorem dX0_startsBy_24 : decode cX0_startsBy 24 = .ok (.ifCond .lt 30, 3) := dk_155 0 30 (dk_at dksX0_startsBy_1 0 rfl rfl)
theorem dX0_startsBy_27 : decode cX0_startsBy 27 = .ok (.aload_n 0, 1) := dk_42 (dk_at dksX0_startsBy_1 3 rfl rfl)
theorem dX0_startsBy_28 : decode cX0_startsBy 28 = .ok (.getfield 111, 3) := dk_180 0 111 (dk_at dksX0_startsBy_1 4 rfl rfl)
theorem dX0_startsBy_31 : decode cX0_startsBy 31 = .ok (.getfield 221, 3) := dk_180 0 221 (dk_at dksX0_startsBy_1 7 rfl rfl)
theorem dX0_startsBy_34 : decode cX0_startsBy 34 = .ok (.iconst 4, 1) := dk_7 (dk_at dksX0_startsBy_1 10 rfl rfl)
theorem dX0_startsBy_35 : decode cX0_startsBy 35 = .ok (.iload_n 3, 1) := dk_29 (dk_at dksX0_startsBy_1 11 rfl rfl)
theorem dX0_startsBy_36 : decode cX0_startsBy 36 = .ok (.imul, 1) := dk_104 (dk_at dksX0_startsBy_1 12 rfl rfl)
theorem dX0_startsBy_37 : decode cX0_startsBy 37 = .ok (.iconst 2, 1) := dk_5 (dk_at dksX0_startsBy_1 13 rfl rfl)
theorem dX0_startsBy_38 : decode cX0_startsBy 38 = .ok (.iadd, 1) := dk_96 (dk_at dksX0_startsBy_1 14 rfl rfl)
theorem dX0_startsBy_39 : decode cX0_startsBy 39 = .ok (.iload_n 2, 1) := dk_28 (dk_at dksX0_startsBy_1 15 rfl rfl)
theorem dX0_startsBy_40 : decode cX0_startsBy 40 = .ok (.iconst 4, 1) := dk_7 (dk_at dksX0_startsBy_1 16 rfl rfl)
theorem dX0_startsBy_41 : decode cX0_startsBy 41 = .ok (.irem, 1) := dk_112 (dk_at dksX0_startsBy_1 17 rfl rfl)
theorem dX0_startsBy_42 : decode cX0_startsBy 42 = .ok (.i2b, 1) := dk_145 (dk_at dksX0_startsBy_1 18 rfl rfl)
theorem dX0_startsBy_43 : decode cX0_startsBy 43 = .ok (.bastore, 1) := dk_84 (dk_at dksX0_startsBy_1 19 rfl rfl)
theorem dX0_startsBy_44 : decode cX0_startsBy 44 = .ok (.iload_n 2, 1) := dk_28 (dk_at dksX0_startsBy_1 20 rfl rfl)
theorem dX0_startsBy_45 : decode cX0_startsBy 45 = .ok (.iconst 4, 1) := dk_7 (dk_at dksX0_startsBy_1 21 rfl rfl)
theorem dX0_startsBy_46 : decode cX0_startsBy 46 = .ok (.idiv, 1) := dk_108 (dk_at dksX0_startsBy_1 22 rfl rfl)
theorem dX0_startsBy_47 : decode cX0_startsBy 47 = .ok (.istore_n 2, 1) := dk_61 (dk_at dksX0_startsBy_1 23 rfl rfl)
theorem dX0_startsBy_48 : decode cX0_startsBy 48 = .ok (.iinc 3 (-1), 3) := dk_132 3 255 (dk_at dksX0_startsBy_2 0 rfl rfl)
theorem dX0_startsBy_51 : decode cX0_startsBy 51 = .ok (.goto (-28), 3) := dk_167 255 228 (dk_at dksX0_startsBy_2 3 rfl rfl)
theorem dX0_startsBy_54 : decode cX0_startsBy 54 = .ok (.return_, 1) := dk_177 (dk_at dksX0_startsBy_2 6 rfl rfl)
def dkwX0_allowed_2 : List UInt8 := [184, 0, 238, 184, 1, 0, 62, 132, 4, 1, 167, 255, 217, 27, 154, 0, 7, 28, 167, 0, 4, 29, 172]
abbrev dktX0_allowed_2 : List UInt8 := dkwX0_allowed_2 ++ []
def dkwX0_allowed_1 : List UInt8 := [180, 0, 188, 120, 162, 0, 31, 42, 21, 4, 182, 0, 212, 153, 0, 16, 132, 2, 1, 29, 21, 4]
abbrev dktX0_allowed_1 : List UInt8 := dkwX0_allowed_1 ++ dktX0_allowed_2
def dkwX0_allowed_0 : List UInt8 := [27, 184, 0, 202, 154, 0, 5, 2, 172, 3, 61, 3, 62, 3, 54, 4, 21, 4, 4, 42, 180, 0, 107]
abbrev dktX0_allowed_0 : List UInt8 := dkwX0_allowed_0 ++ dktX0_allowed_1
theorem dksX0_allowed_0 : cX0_allowed.data.toList.drop 0 = dktX0_allowed_0 := by decide +kernel
theorem dksX0_allowed_1 : cX0_allowed.data.toList.drop 23 = dktX0_allowed_1 := dk_seg dksX0_allowed_0 23 rfl rfl
theorem dksX0_allowed_2 : cX0_allowed.data.toList.drop 45 = dktX0_allowed_2 := dk_seg dksX0_allowed_1 22 rfl rfl
theorem dX0_allowed_0 : decode cX0_allowed 0 = .ok (.iload_n 1, 1) := dk_27 (dk_at dksX0_allowed_0 0 rfl rfl)
theorem dX0_allowed_1 : decode cX0_allowed 1 = .ok (.invokestatic 202, 3) := dk_184 0 202 (dk_at dksX0_allowed_0 1 rfl rfl)
theorem dX0_allowed_4 : decode cX0_allowed 4 = .ok (.ifCond .ne 5, 3) := dk_154 0 5 (dk_at dksX0_allowed_0 4 rfl rfl)
theorem dX0_allowed_7 : decode cX0_allowed 7 = .ok (.iconst (-1), 1) := dk_2 (dk_at dksX0_allowed_0 7 rfl rfl)
theorem dX0_allowed_8 : decode cX0_allowed 8 = .ok (.ireturn, 1) := dk_172 (dk_at dksX0_allowed_0 8 rfl rfl)
theorem dX0_allowed_9 : decode cX0_allowed 9 = .ok (.iconst 0, 1) := dk_3 (dk_at dksX0_allowed_0 9 rfl rfl)
theorem dX0_allowed_10 : decode cX0_allowed 10 = .ok (.istore_n 2, 1) := dk_61 (dk_at dksX0_allowed_0 10 rfl rfl)
theorem dX0_allowed_11 : decode cX0_allowed 11 = .ok (.iconst 0, 1) := dk_3 (dk_at dksX0_allowed_0 11 rfl rfl)
theorem dX0_allowed_12 : decode cX0_allowed 12 = .ok (.istore_n 3, 1) := dk_62 (dk_at dksX0_allowed_0 12 rfl rfl)
theorem dX0_allowed_13 : decode cX0_allowed 13 = .ok (.iconst 0, 1) := dk_3 (dk_at dksX0_allowed_0 13 rfl rfl)
theorem dX0_allowed_14 : decode cX0_allowed 14 = .ok (.istore 4, 2) := dk_54 4 (dk_at dksX0_allowed_0 14 rfl rfl)
theorem dX0_allowed_16 : decode cX0_allowed 16 = .ok (.iload 4, 2) := dk_21 4 (dk_at dksX0_allowed_0 16 rfl rfl)
theorem dX0_allowed_18 : decode cX0_allowed 18 = .ok (.iconst 1, 1) := dk_4 (dk_at dksX0_allowed_0 18 rfl rfl)
theorem dX0_allowed_19 : decode cX0_allowed 19 = .ok (.aload_n 0, 1) := dk_42 (dk_at dksX0_allowed_0 19 rfl rfl)
theorem dX0_allowed_20 : decode cX0_allowed 20 = .ok (.getfield 107, 3) := dk_180 0 107 (dk_at dksX0_allowed_0 20 rfl rfl)
theorem dX0_allowed_23 : decode cX0_allowed 23 = .ok (.getfield 188, 3) := dk_180 0 188 (dk_at dksX0_allowed_1 0 rfl rfl)
theorem dX0_allowed_26 : decode cX0_allowed 26 = .ok (.ishl, 1) := dk_120 (dk_at dksX0_allowed_1 3 rfl rfl)
theorem dX0_allowed_27 : decode cX0_allowed 27 = .ok (.if_icmp .ge 31, 3) := dk_162 0 31 (dk_at dksX0_allowed_1 4 rfl rfl)
theorem dX0_allowed_30 : decode cX0_allowed 30 = .ok (.aload_n 0, 1) := dk_42 (dk_at dksX0_allowed_1 7 rfl rfl)
theorem dX0_allowed_31 : decode cX0_allowed 31 = .ok (.iload 4, 2) := dk_21 4 (dk_at dksX0_allowed_1 8 rfl rfl)
theorem dX0_allowed_33 : decode cX0_allowed 33 = .ok (.invokevirtual 212, 3) := dk_182 0 212 (dk_at dksX0_allowed_1 10 rfl rfl)
theorem dX0_allowed_36 : decode cX0_allowed 36 = .ok (.ifCond .eq 16, 3) := dk_153 0 16 (dk_at dksX0_allowed_1 13 rfl rfl)
theorem dX0_allowed_39 : decode cX0_allowed 39 = .ok (.iinc 2 1, 3) := dk_132 2 1 (dk_at dksX0_allowed_1 16 rfl rfl)
theorem dX0_allowed_42 : decode cX0_allowed 42 = .ok (.iload_n 3, 1) := dk_29 (dk_at dksX0_allowed_1 19 rfl rfl)
theorem dX0_allowed_43 : decode cX0_allowed 43 = .ok (.iload 4, 2) := dk_21 4 (dk_at dksX0_allowed_1 20 rfl rfl)
theorem dX0_allowed_45 : decode cX0_allowed 45 = .ok (.invokestatic 238, 3) := dk_184 0 238 (dk_at dksX0_allowed_2 0 rfl rfl)
theorem dX0_allowed_48 : decode cX0_allowed 48 = .ok (.invokestatic 256, 3) := dk_184 1 0 (dk_at dksX0_allowed_2 3 rfl rfl)
theorem dX0_allowed_51 : decode cX0_allowed 51 = .ok (.istore_n 3, 1) := dk_62 (dk_at dksX0_allowed_2 6 rfl rfl)
theorem dX0_allowed_52 : decode cX0_allowed 52 = .ok (.iinc 4 1, 3) := dk_132 4 1 (dk_at dksX0_allowed_2 7 rfl rfl)
theorem dX0_allowed_55 : decode cX0_allowed 55 = .ok (.goto (-39), 3) := dk_167 255 217 (dk_at dksX0_allowed_2 10 rfl rfl)
theorem dX0_allowed_58 : decode cX0_allowed 58 = .ok (.iload_n 1, 1) := dk_27 (dk_at dksX0_allowed_2 13 rfl rfl)
theorem dX0_allowed_59 : decode cX0_allowed 59 = .ok (.ifCond .ne 7, 3) := dk_154 0 7 (dk_at dksX0_allowed_2 14 rfl rfl)
theorem dX0_allowed_62 : decode cX0_allowed 62 = .ok (.iload_n 2, 1) := dk_28 (dk_at dksX0_allowed_2 17 rfl rfl)
theorem dX0_allowed_63 : decode cX0_allowed 63 = .ok (.goto 4, 3) := dk_167 0 4 (dk_at dksX0_allowed_2 18 rfl rfl)
theorem dX0_allowed_66 : decode cX0_allowed 66 = .ok (.iload_n 3, 1) := dk_29 (dk_at dksX0_allowed_2 21 rfl rfl)
theorem dX0_allowed_67 : decode cX0_allowed 67 = .ok (.ireturn, 1) := dk_172 (dk_at dksX0_allowed_2 22 rfl rfl)
def dkwX0_convert_6 : List UInt8 := [29, 16, 252, 160, 0, 8, 16, 252, 167, 0, 12, 27, 154, 0, 7, 29, 167, 0, 4, 28, 172]
abbrev dktX0_convert_6 : List UInt8 := dkwX0_convert_6 ++ []
def dkwX0_convert_5 : List UInt8 := [167, 0, 4, 29, 62, 28, 21, 6, 184, 1, 5, 61, 132, 5, 1, 167, 255, 175, 132, 4, 1, 167, 255, 154]
abbrev dktX0_convert_5 : List UInt8 := dkwX0_convert_5 ++ dktX0_convert_6
def dkwX0_convert_4 : List UInt8 := [180, 0, 111, 182, 0, 230, 54, 6, 21, 6, 28, 162, 0, 14, 16, 10, 21, 4, 104, 21, 5, 96]
abbrev dktX0_convert_4 : List UInt8 := dkwX0_convert_4 ++ dktX0_convert_5
def dkwX0_convert_3 : List UInt8 := [180, 0, 221, 7, 21, 4, 104, 3, 96, 21, 5, 145, 84, 42, 42, 180, 0, 111, 182, 0, 224, 42, 42]
abbrev dktX0_convert_3 : List UInt8 := dkwX0_convert_3 ++ dktX0_convert_4
def dkwX0_convert_2 : List UInt8 := [54, 5, 21, 5, 7, 162, 0, 81, 42, 180, 0, 111, 42, 180, 0, 107, 182, 0, 158, 42, 180, 0, 111]
abbrev dktX0_convert_2 : List UInt8 := dkwX0_convert_2 ++ dktX0_convert_3
def dkwX0_convert_1 : List UInt8 := [182, 0, 230, 61, 16, 252, 62, 3, 54, 4, 21, 4, 42, 180, 0, 107, 180, 0, 15, 162, 0, 96, 3]
abbrev dktX0_convert_1 : List UInt8 := dkwX0_convert_1 ++ dktX0_convert_2
def dkwX0_convert_0 : List UInt8 := [27, 184, 0, 202, 154, 0, 5, 2, 172, 42, 42, 180, 0, 107, 182, 0, 224, 42, 42, 180, 0, 107]
abbrev dktX0_convert_0 : List UInt8 := dkwX0_convert_0 ++ dktX0_convert_1
theorem dksX0_convert_0 : cX0_convert.data.toList.drop 0 = dktX0_convert_0 := by decide +kernel
theorem dksX0_convert_1 : cX0_convert.data.toList.drop 22 = dktX0_convert_1 := dk_seg dksX0_convert_0 22 rfl rfl
theorem dksX0_convert_2 : cX0_convert.data.toList.drop 45 = dktX0_convert_2 := dk_seg dksX0_convert_1 23 rfl rfl
theorem dksX0_convert_3 : cX0_convert.data.toList.drop 68 = dktX0_convert_3 := dk_seg dksX0_convert_2 23 rfl rfl
theorem dksX0_convert_4 : cX0_convert.data.toList.drop 91 = dktX0_convert_4 := dk_seg dksX0_convert_3 23 rfl rfl
theorem dksX0_convert_5 : cX0_convert.data.toList.drop 113 = dktX0_convert_5 := dk_seg dksX0_convert_4 22 rfl rfl
theorem dksX0_convert_6 : cX0_convert.data.toList.drop 137 = dktX0_convert_6 := dk_seg dksX0_convert_5 24 rfl rfl
theorem dX0_convert_0 : decode cX0_convert 0 = .ok (.iload_n 1, 1) := dk_27 (dk_at dksX0_convert_0 0 rfl rfl)
theorem dX0_convert_1 : decode cX0_convert 1 = .ok (.invokestatic 202, 3) := dk_184 0 202 (dk_at dksX0_convert_0 1 rfl rfl)
theorem dX0_convert_4 : decode cX0_convert 4 = .ok (.ifCond .ne 5, 3) := dk_154 0 5 (dk_at dksX0_convert_0 4 rfl rfl)
theorem dX0_convert_7 : decode cX0_convert 7 = .ok (.iconst (-1), 1) := dk_2 (dk_at dksX0_convert_0 7 rfl rfl)
theorem dX0_convert_8 : decode cX0_convert 8 = .ok (.ireturn, 1) := dk_172 (dk_at dksX0_convert_0 8 rfl rfl)
theorem dX0_convert_9 : decode cX0_convert 9 = .ok (.aload_n 0, 1) := dk_42 (dk_at dksX0_convert_0 9 rfl rfl)
theorem dX0_convert_10 : decode cX0_convert 10 = .ok (.aload_n 0, 1) := dk_42 (dk_at dksX0_convert_0 10 rfl rfl)
theorem dX0_convert_11 : decode cX0_convert 11 = .ok (.getfield 107, 3) := dk_180 0 107 (dk_at dksX0_convert_0 11 rfl rfl)
theorem dX0_convert_14 : decode cX0_convert 14 = .ok (.invokevirtual 224, 3) := dk_182 0 224 (dk_at dksX0_convert_0 14 rfl rfl)
theorem dX0_convert_17 : decode cX0_convert 17 = .ok (.aload_n 0, 1) := dk_42 (dk_at dksX0_convert_0 17 rfl rfl)
theorem dX0_convert_18 : decode cX0_convert 18 = .ok (.aload_n 0, 1) := dk_42 (dk_at dksX0_convert_0 18 rfl rfl)
theorem dX0_convert_19 : decode cX0_convert 19 = .ok (.getfield 107, 3) := dk_180 0 107 (dk_at dksX0_convert_0 19 rfl rfl)
theorem dX0_convert_22 : decode cX0_convert 22 = .ok (.invokevirtual 230, 3) := dk_182 0 230 (dk_at dksX0_convert_1 0 rfl rfl)
theorem dX0_convert_25 : decode cX0_convert 25 = .ok (.istore_n 2, 1) := dk_61 (dk_at dksX0_convert_1 3 rfl rfl)
theorem dX0_convert_26 : decode cX0_convert 26 = .ok (.bipush (-4), 2) := dk_16 252 (dk_at dksX0_convert_1 4 rfl rfl)
theorem dX0_convert_28 : decode cX0_convert 28 = .ok (.istore_n 3, 1) := dk_62 (dk_at dksX0_convert_1 6 rfl rfl)
theorem dX0_convert_29 : decode cX0_convert 29 = .ok (.iconst 0, 1) := dk_3 (dk_at dksX0_convert_1 7 rfl rfl)
theorem dX0_convert_30 : decode cX0_convert 30 = .ok (.istore 4, 2) := dk_54 4 (dk_at dksX0_convert_1 8 rfl rfl)
theorem dX0_convert_32 : decode cX0_convert 32 = .ok (.iload 4, 2) := dk_21 4 (dk_at dksX0_convert_1 10 rfl rfl)
theorem dX0_convert_34 : decode cX0_convert 34 = .ok (.aload_n 0, 1) := dk_42 (dk_at dksX0_convert_1 12 rfl rfl)
theorem dX0_convert_35 : decode cX0_convert 35 = .ok (.getfield 107, 3) := dk_180 0 107 (dk_at dksX0_convert_1 13 rfl rfl)
theorem dX0_convert_38 : decode cX0_convert 38 = .ok (.getfield 15, 3) := dk_180 0 15 (dk_at dksX0_convert_1 16 rfl rfl)
theorem dX0_convert_41 : decode cX0_convert 41 = .ok (.if_icmp .ge 96, 3) := dk_162 0 96 (dk_at dksX0_convert_1 19 rfl rfl)
theorem dX0_convert_44 : decode cX0_convert 44 = .ok (.iconst 0, 1) := dk_3 (dk_at dksX0_convert_1 22 rfl rfl)
theorem dX0_convert_45 : decode cX0_convert 45 = .ok (.istore 5, 2) := dk_54 5 (dk_at dksX0_convert_2 0 rfl rfl)
theorem dX0_convert_47 : decode cX0_convert 47 = .ok (.iload 5, 2) := dk_21 5 (dk_at dksX0_convert_2 2 rfl rfl)
theorem dX0_convert_49 : decode cX0_convert 49 = .ok (.iconst 4, 1) := dk_7 (dk_at dksX0_convert_2 4 rfl rfl)
theorem dX0_convert_50 : decode cX0_convert 50 = .ok (.if_icmp .ge 81, 3) := dk_162 0 81 (dk_at dksX0_convert_2 5 rfl rfl)
theorem dX0_convert_53 : decode cX0_convert 53 = .ok (.aload_n 0, 1) := dk_42 (dk_at dksX0_convert_2 8 rfl rfl)
theorem dX0_convert_54 : decode cX0_convert 54 = .ok (.getfield 111, 3) := dk_180 0 111 (dk_at dksX0_convert_2 9 rfl rfl)
theorem dX0_convert_57 : decode cX0_convert 57 = .ok (.aload_n 0, 1) := dk_42 (dk_at dksX0_convert_2 12 rfl rfl)
theorem dX0_convert_58 : decode cX0_convert 58 = .ok (.getfield 107, 3) := dk_180 0 107 (dk_at dksX0_convert_2 13 rfl rfl)
theorem dX0_convert_61 : decode cX0_convert 61 = .ok (.invokevirtual 158, 3) := dk_182 0 158 (dk_at dksX0_convert_2 16 rfl rfl)
theorem dX0_convert_64 : decode cX0_convert 64 = .ok (.aload_n 0, 1) := dk_42 (dk_at dksX0_convert_2 19 rfl rfl)
theorem dX0_convert_65 : decode cX0_convert 65 = .ok (.getfield 111, 3) := dk_180 0 111 (dk_at dksX0_convert_2 20 rfl rfl)
theorem dX0_convert_68 : decode cX0_convert 68 = .ok (.getfield 221, 3) := dk_180 0 221 (dk_at dksX0_convert_3 0 rfl rfl)
theorem dX0_convert_71 : decode cX0_convert 71 = .ok (.iconst 4, 1) := dk_7 (dk_at dksX0_convert_3 3 rfl rfl)
theorem dX0_convert_72 : decode cX0_convert 72 = .ok (.iload 4, 2) := dk_21 4 (dk_at dksX0_convert_3 4 rfl rfl)
theorem dX0_convert_74 : decode cX0_convert 74 = .ok (.imul, 1) := dk_104 (dk_at dksX0_convert_3 6 rfl rfl)
theorem dX0_convert_75 : decode cX0_convert 75 = .ok (.iconst 0, 1) := dk_3 (dk_at dksX0_convert_3 7 rfl rfl)
theorem dX0_convert_76 : decode cX0_convert 76 = .ok (.iadd, 1) := dk_96 (dk_at dksX0_convert_3 8 rfl rfl)
theorem dX0_convert_77 : decode cX0_convert 77 = .ok (.iload 5, 2) := dk_21 5 (dk_at dksX0_convert_3 9 rfl rfl)
theorem dX0_convert_79 : decode cX0_convert 79 = .ok (.i2b, 1) := dk_145 (dk_at dksX0_convert_3 11 rfl rfl)
theorem dX0_convert_80 : decode cX0_convert 80 = .ok (.bastore, 1) := dk_84 (dk_at dksX0_convert_3 12 rfl rfl)
theorem dX0_convert_81 : decode cX0_convert 81 = .ok (.aload_n 0, 1) := dk_42 (dk_at dksX0_convert_3 13 rfl rfl)
theorem dX0_convert_82 : decode cX0_convert 82 = .ok (.aload_n 0, 1) := dk_42 (dk_at dksX0_convert_3 14 rfl rfl)
theorem dX0_convert_83 : decode cX0_convert 83 = .ok (.getfield 111, 3) := dk_180 0 111 (dk_at dksX0_convert_3 15 rfl rfl)
theorem dX0_convert_86 : decode cX0_convert 86 = .ok (.invokevirtual 224, 3) := dk_182 0 224 (dk_at dksX0_convert_3 18 rfl rfl)
theorem dX0_convert_89 : decode cX0_convert 89 = .ok (.aload_n 0, 1) := dk_42 (dk_at dksX0_convert_3 21 rfl rfl)
theorem dX0_convert_90 : decode cX0_convert 90 = .ok (.aload_n 0, 1) := dk_42 (dk_at dksX0_convert_3 22 rfl rfl)
theorem dX0_convert_91 : decode cX0_convert 91 = .ok (.getfield 111, 3) := dk_180 0 111 (dk_at dksX0_convert_4 0 rfl rfl)
theorem dX0_convert_94 : decode cX0_convert 94 = .ok (.invokevirtual 230, 3) := dk_182 0 230 (dk_at dksX0_convert_4 3 rfl rfl)
theorem dX0_convert_97 : decode cX0_convert 97 = .ok (.istore 6, 2) := dk_54 6 (dk_at dksX0_convert_4 6 rfl rfl)
theorem dX0_convert_99 : decode cX0_convert 99 = .ok (.iload 6, 2) := dk_21 6 (dk_at dksX0_convert_4 8 rfl rfl)
theorem dX0_convert_101 : decode cX0_convert 101 = .ok (.iload_n 2, 1) := dk_28 (dk_at dksX0_convert_4 10 rfl rfl)
theorem dX0_convert_102 : decode cX0_convert 102 = .ok (.if_icmp .ge 14, 3) := dk_162 0 14 (dk_at dksX0_convert_4 11 rfl rfl)
theorem dX0_convert_105 : decode cX0_convert 105 = .ok (.bipush 10, 2) := dk_16 10 (dk_at dksX0_convert_4 14 rfl rfl)
theorem dX0_convert_107 : decode cX0_convert 107 = .ok (.iload 4, 2) := dk_21 4 (dk_at dksX0_convert_4 16 rfl rfl)
theorem dX0_convert_109 : decode cX0_convert 109 = .ok (.imul, 1) := dk_104 (dk_at dksX0_convert_4 18 rfl rfl)
theorem dX0_convert_110 : decode cX0_convert 110 = .ok (.iload 5, 2) := dk_21 5 (dk_at dksX0_convert_4 19 rfl rfl)
theorem dX0_convert_112 : decode cX0_convert 112 = .ok (.iadd, 1) := dk_96 (dk_at dksX0_convert_4 21 rfl rfl)
theorem dX0_convert_113 : decode cX0_convert 113 = .ok (.goto 4, 3) := dk_167 0 4 (dk_at dksX0_convert_5 0 rfl rfl)
theorem dX0_convert_116 : decode cX0_convert 116 = .ok (.iload_n 3, 1) := dk_29 (dk_at dksX0_convert_5 3 rfl rfl)
theorem dX0_convert_117 : decode cX0_convert 117 = .ok (.istore_n 3, 1) := dk_62 (dk_at dksX0_convert_5 4 rfl rfl)
theorem dX0_convert_118 : decode cX0_convert 118 = .ok (.iload_n 2, 1) := dk_28 (dk_at dksX0_convert_5 5 rfl rfl)
theorem dX0_convert_119 : decode cX0_convert 119 = .ok (.iload 6, 2) := dk_21 6 (dk_at dksX0_convert_5 6 rfl rfl)
theorem dX0_convert_121 : decode cX0_convert 121 = .ok (.invokestatic 261, 3) := dk_184 1 5 (dk_at dksX0_convert_5 8 rfl rfl)
theorem dX0_convert_124 : decode cX0_convert 124 = .ok (.istore_n 2, 1) := dk_61 (dk_at dksX0_convert_5 11 rfl rfl)
theorem dX0_convert_125 : decode cX0_convert 125 = .ok (.iinc 5 1, 3) := dk_132 5 1 (dk_at dksX0_convert_5 12 rfl rfl)
theorem dX0_convert_128 : decode cX0_convert 128 = .ok (.goto (-81), 3) := dk_167 255 175 (dk_at dksX0_convert_5 15 rfl rfl)
theorem dX0_convert_131 : decode cX0_convert 131 = .ok (.iinc 4 1, 3) := dk_132 4 1 (dk_at dksX0_convert_5 18 rfl rfl)
theorem dX0_convert_134 : decode cX0_convert 134 = .ok (.goto (-102), 3) := dk_167 255 154 (dk_at dksX0_convert_5 21 rfl rfl)
theorem dX0_convert_137 : decode cX0_convert 137 = .ok (.iload_n 3, 1) := dk_29 (dk_at dksX0_convert_6 0 rfl rfl)
theorem dX0_convert_138 : decode cX0_convert 138 = .ok (.bipush (-4), 2) := dk_16 252 (dk_at dksX0_convert_6 1 rfl rfl)
theorem dX0_convert_140 : decode cX0_convert 140 = .ok (.if_icmp .ne 8, 3) := dk_160 0 8 (dk_at dksX0_convert_6 3 rfl rfl)
theorem dX0_convert_143 : decode cX0_convert 143 = .ok (.bipush (-4), 2) := dk_16 252 (dk_at dksX0_convert_6 6 rfl rfl)
theorem dX0_convert_145 : decode cX0_convert 145 = .ok (.goto 12, 3) := dk_167 0 12 (dk_at dksX0_convert_6 8 rfl rfl)
theorem dX0_convert_148 : decode cX0_convert 148 = .ok (.iload_n 1, 1) := dk_27 (dk_at dksX0_convert_6 11 rfl rfl)
theorem dX0_convert_149 : decode cX0_convert 149 = .ok (.ifCond .ne 7, 3) := dk_154 0 7 (dk_at dksX0_convert_6 12 rfl rfl)
theorem dX0_convert_152 : decode cX0_convert 152 = .ok (.iload_n 3, 1) := dk_29 (dk_at dksX0_convert_6 15 rfl rfl)
theorem dX0_convert_153 : decode cX0_convert 153 = .ok (.goto 4, 3) := dk_167 0 4 (dk_at dksX0_convert_6 16 rfl rfl)
theorem dX0_convert_156 : decode cX0_convert 156 = .ok (.iload_n 2, 1) := dk_28 (dk_at dksX0_convert_6 19 rfl rfl)
theorem dX0_convert_157 : decode cX0_convert 157 = .ok (.ireturn, 1) := dk_172 (dk_at dksX0_convert_6 20 rfl rfl)
def dkwX0_mean_1 : List UInt8 := [27, 182, 1, 22, 42, 180, 1, 8, 42, 180, 1, 15, 28, 184, 1, 25, 173]
abbrev dktX0_mean_1 : List UInt8 := dkwX0_mean_1 ++ []
def dkwX0_mean_0 : List UInt8 := [27, 133, 9, 20, 1, 18, 184, 0, 136, 153, 0, 10, 28, 184, 0, 202, 154, 0, 7, 20, 1, 20, 173, 42]
abbrev dktX0_mean_0 : List UInt8 := dkwX0_mean_0 ++ dktX0_mean_1
theorem dksX0_mean_0 : cX0_mean.data.toList.drop 0 = dktX0_mean_0 := by decide +kernel
theorem dksX0_mean_1 : cX0_mean.data.toList.drop 24 = dktX0_mean_1 := dk_seg dksX0_mean_0 24 rfl rfl
theorem dX0_mean_0 : decode cX0_mean 0 = .ok (.iload_n 1, 1) := dk_27 (dk_at dksX0_mean_0 0 rfl rfl)
theorem dX0_mean_1 : decode cX0_mean 1 = .ok (.i2l, 1) := dk_133 (dk_at dksX0_mean_0 1 rfl rfl)
theorem dX0_mean_2 : decode cX0_mean 2 = .ok (.lconst 0, 1) := dk_9 (dk_at dksX0_mean_0 2 rfl rfl)
theorem dX0_mean_3 : decode cX0_mean 3 = .ok (.ldc2_w 274, 3) := dk_20 1 18 (dk_at dksX0_mean_0 3 rfl rfl)
theorem dX0_mean_6 : decode cX0_mean 6 = .ok (.invokestatic 136, 3) := dk_184 0 136 (dk_at dksX0_mean_0 6 rfl rfl)
theorem dX0_mean_9 : decode cX0_mean 9 = .ok (.ifCond .eq 10, 3) := dk_153 0 10 (dk_at dksX0_mean_0 9 rfl rfl)
theorem dX0_mean_12 : decode cX0_mean 12 = .ok (.iload_n 2, 1) := dk_28 (dk_at dksX0_mean_0 12 rfl rfl)
theorem dX0_mean_13 : decode cX0_mean 13 = .ok (.invokestatic 202, 3) := dk_184 0 202 (dk_at dksX0_mean_0 13 rfl rfl)
theorem dX0_mean_16 : decode cX0_mean 16 = .ok (.ifCond .ne 7, 3) := dk_154 0 7 (dk_at dksX0_mean_0 16 rfl rfl)
theorem dX0_mean_19 : decode cX0_mean 19 = .ok (.ldc2_w 276, 3) := dk_20 1 20 (dk_at dksX0_mean_0 19 rfl rfl)
theorem dX0_mean_22 : decode cX0_mean 22 = .ok (.lreturn, 1) := dk_173 (dk_at dksX0_mean_0 22 rfl rfl)
theorem dX0_mean_23 : decode cX0_mean 23 = .ok (.aload_n 0, 1) := dk_42 (dk_at dksX0_mean_0 23 rfl rfl)
theorem dX0_mean_24 : decode cX0_mean 24 = .ok (.iload_n 1, 1) := dk_27 (dk_at dksX0_mean_1 0 rfl rfl)
theorem dX0_mean_25 : decode cX0_mean 25 = .ok (.invokevirtual 278, 3) := dk_182 1 22 (dk_at dksX0_mean_1 1 rfl rfl)
theorem dX0_mean_28 : decode cX0_mean 28 = .ok (.aload_n 0, 1) := dk_42 (dk_at dksX0_mean_1 4 rfl rfl)
theorem dX0_mean_29 : decode cX0_mean 29 = .ok (.getfield 264, 3) := dk_180 1 8 (dk_at dksX0_mean_1 5 rfl rfl)
theorem dX0_mean_32 : decode cX0_mean 32 = .ok (.aload_n 0, 1) := dk_42 (dk_at dksX0_mean_1 8 rfl rfl)
theorem dX0_mean_33 : decode cX0_mean 33 = .ok (.getfield 271, 3) := dk_180 1 15 (dk_at dksX0_mean_1 9 rfl rfl)
theorem dX0_mean_36 : decode cX0_mean 36 = .ok (.iload_n 2, 1) := dk_28 (dk_at dksX0_mean_1 12 rfl rfl)
theorem dX0_mean_37 : decode cX0_mean 37 = .ok (.invokestatic 281, 3) := dk_184 1 25 (dk_at dksX0_mean_1 13 rfl rfl)
theorem dX0_mean_40 : decode cX0_mean 40 = .ok (.lreturn, 1) := dk_173 (dk_at dksX0_mean_1 16 rfl rfl)
def dkwX0_findOdds_8 : List UInt8 := [180, 0, 41, 16, 252, 160, 0, 7, 33, 167, 0, 4, 9, 97, 181, 1, 12, 132, 2, 1, 167, 255, 116, 177]
abbrev dktX0_findOdds_8 : List UInt8 := dkwX0_findOdds_8 ++ []
def dkwX0_findOdds_7 : List UInt8 := [180, 1, 8, 33, 42, 42, 180, 0, 111, 182, 0, 230, 133, 105, 97, 181, 1, 8, 42, 89, 180, 1, 12, 42]
abbrev dktX0_findOdds_7 : List UInt8 := dkwX0_findOdds_7 ++ dktX0_findOdds_8
def dkwX0_findOdds_6 : List UInt8 := [167, 0, 8, 16, 10, 27, 100, 133, 105, 66, 132, 5, 1, 167, 255, 200, 42, 28, 182, 0, 247, 42, 89]
abbrev dktX0_findOdds_6 : List UInt8 := dkwX0_findOdds_6 ++ dktX0_findOdds_7
def dkwX0_findOdds_5 : List UInt8 := [21, 5, 184, 0, 11, 153, 0, 7, 10, 167, 0, 22, 28, 21, 5, 184, 0, 11, 153, 0, 8, 27, 133]
abbrev dktX0_findOdds_5 : List UInt8 := dkwX0_findOdds_5 ++ dktX0_findOdds_6
def dkwX0_findOdds_4 : List UInt8 := [66, 3, 54, 5, 21, 5, 42, 180, 0, 107, 180, 0, 188, 162, 0, 50, 33, 42, 180, 0, 107, 182, 0, 193]
abbrev dktX0_findOdds_4 : List UInt8 := dkwX0_findOdds_4 ++ dktX0_findOdds_5
def dkwX0_findOdds_3 : List UInt8 := [42, 180, 0, 107, 180, 0, 188, 120, 162, 0, 133, 28, 42, 180, 0, 107, 182, 0, 193, 126, 154, 0, 115, 10]
abbrev dktX0_findOdds_3 : List UInt8 := dkwX0_findOdds_3 ++ dktX0_findOdds_4
def dkwX0_findOdds_2 : List UInt8 := [153, 0, 7, 10, 167, 0, 6, 20, 1, 18, 105, 181, 1, 15, 132, 2, 1, 167, 255, 212, 3, 61, 28, 4]
abbrev dktX0_findOdds_2 : List UInt8 := dkwX0_findOdds_2 ++ dktX0_findOdds_3
def dkwX0_findOdds_1 : List UInt8 := [180, 0, 188, 162, 0, 39, 42, 89, 180, 1, 15, 42, 180, 0, 107, 182, 0, 193, 28, 184, 0, 11]
abbrev dktX0_findOdds_1 : List UInt8 := dkwX0_findOdds_1 ++ dktX0_findOdds_2
def dkwX0_findOdds_0 : List UInt8 := [42, 9, 181, 1, 8, 42, 9, 181, 1, 12, 42, 10, 181, 1, 15, 3, 61, 28, 42, 180, 0, 107]
abbrev dktX0_findOdds_0 : List UInt8 := dkwX0_findOdds_0 ++ dktX0_findOdds_1
theorem dksX0_findOdds_0 : cX0_findOdds.data.toList.drop 0 = dktX0_findOdds_0 := by decide +kernel
theorem dksX0_findOdds_1 : cX0_findOdds.data.toList.drop 22 = dktX0_findOdds_1 := dk_seg dksX0_findOdds_0 22 rfl rfl
theorem dksX0_findOdds_2 : cX0_findOdds.data.toList.drop 44 = dktX0_findOdds_2 := dk_seg dksX0_findOdds_1 22 rfl rfl
theorem dksX0_findOdds_3 : cX0_findOdds.data.toList.drop 68 = dktX0_findOdds_3 := dk_seg dksX0_findOdds_2 24 rfl rfl
theorem dksX0_findOdds_4 : cX0_findOdds.data.toList.drop 92 = dktX0_findOdds_4 := dk_seg dksX0_findOdds_3 24 rfl rfl
theorem dksX0_findOdds_5 : cX0_findOdds.data.toList.drop 116 = dktX0_findOdds_5 := dk_seg dksX0_findOdds_4 24 rfl rfl
theorem dksX0_findOdds_6 : cX0_findOdds.data.toList.drop 139 = dktX0_findOdds_6 := dk_seg dksX0_findOdds_5 23 rfl rfl
theorem dksX0_findOdds_7 : cX0_findOdds.data.toList.drop 162 = dktX0_findOdds_7 := dk_seg dksX0_findOdds_6 23 rfl rfl
theorem dksX0_findOdds_8 : cX0_findOdds.data.toList.drop 186 = dktX0_findOdds_8 := dk_seg dksX0_findOdds_7 24 rfl rfl
theorem dX0_findOdds_0 : decode cX0_findOdds 0 = .ok (.aload_n 0, 1) := dk_42 (dk_at dksX0_findOdds_0 0 rfl rfl)
theorem dX0_findOdds_1 : decode cX0_findOdds 1 = .ok (.lconst 0, 1) := dk_9 (dk_at dksX0_findOdds_0 1 rfl rfl)
theorem dX0_findOdds_2 : decode cX0_findOdds 2 = .ok (.putfield 264, 3) := dk_181 1 8 (dk_at dksX0_findOdds_0 2 rfl rfl)
theorem dX0_findOdds_5 : decode cX0_findOdds 5 = .ok (.aload_n 0, 1) := dk_42 (dk_at dksX0_findOdds_0 5 rfl rfl)
theorem dX0_findOdds_6 : decode cX0_findOdds 6 = .ok (.lconst 0, 1) := dk_9 (dk_at dksX0_findOdds_0 6 rfl rfl)
theorem dX0_findOdds_7 : decode cX0_findOdds 7 = .ok (.putfield 268, 3) := dk_181 1 12 (dk_at dksX0_findOdds_0 7 rfl rfl)
theorem dX0_findOdds_10 : decode cX0_findOdds 10 = .ok (.aload_n 0, 1) := dk_42 (dk_at dksX0_findOdds_0 10 rfl rfl)
theorem dX0_findOdds_11 : decode cX0_findOdds 11 = .ok (.lconst 1, 1) := dk_10 (dk_at dksX0_findOdds_0 11 rfl rfl)
theorem dX0_findOdds_12 : decode cX0_findOdds 12 = .ok (.putfield 271, 3) := dk_181 1 15 (dk_at dksX0_findOdds_0 12 rfl rfl)
theorem dX0_findOdds_15 : decode cX0_findOdds 15 = .ok (.iconst 0, 1) := dk_3 (dk_at dksX0_findOdds_0 15 rfl rfl)
theorem dX0_findOdds_16 : decode cX0_findOdds 16 = .ok (.istore_n 2, 1) := dk_61 (dk_at dksX0_findOdds_0 16 rfl rfl)
theorem dX0_findOdds_17 : decode cX0_findOdds 17 = .ok (.iload_n 2, 1) := dk_28 (dk_at dksX0_findOdds_0 17 rfl rfl)
theorem dX0_findOdds_18 : decode cX0_findOdds 18 = .ok (.aload_n 0, 1) := dk_42 (dk_at dksX0_findOdds_0 18 rfl rfl)
theorem dX0_findOdds_19 : decode cX0_findOdds 19 = .ok (.getfield 107, 3) := dk_180 0 107 (dk_at dksX0_findOdds_0 19 rfl rfl)
theorem dX0_findOdds_22 : decode cX0_findOdds 22 = .ok (.getfield 188, 3) := dk_180 0 188 (dk_at dksX0_findOdds_1 0 rfl rfl)
theorem dX0_findOdds_25 : decode cX0_findOdds 25 = .ok (.if_icmp .ge 39, 3) := dk_162 0 39 (dk_at dksX0_findOdds_1 3 rfl rfl)
theorem dX0_findOdds_28 : decode cX0_findOdds 28 = .ok (.aload_n 0, 1) := dk_42 (dk_at dksX0_findOdds_1 6 rfl rfl)
theorem dX0_findOdds_29 : decode cX0_findOdds 29 = .ok (.dup, 1) := dk_89 (dk_at dksX0_findOdds_1 7 rfl rfl)
theorem dX0_findOdds_30 : decode cX0_findOdds 30 = .ok (.getfield 271, 3) := dk_180 1 15 (dk_at dksX0_findOdds_1 8 rfl rfl)
theorem dX0_findOdds_33 : decode cX0_findOdds 33 = .ok (.aload_n 0, 1) := dk_42 (dk_at dksX0_findOdds_1 11 rfl rfl)
theorem dX0_findOdds_34 : decode cX0_findOdds 34 = .ok (.getfield 107, 3) := dk_180 0 107 (dk_at dksX0_findOdds_1 12 rfl rfl)
theorem dX0_findOdds_37 : decode cX0_findOdds 37 = .ok (.invokevirtual 193, 3) := dk_182 0 193 (dk_at dksX0_findOdds_1 15 rfl rfl)
theorem dX0_findOdds_40 : decode cX0_findOdds 40 = .ok (.iload_n 2, 1) := dk_28 (dk_at dksX0_findOdds_1 18 rfl rfl)
theorem dX0_findOdds_41 : decode cX0_findOdds 41 = .ok (.invokestatic 11, 3) := dk_184 0 11 (dk_at dksX0_findOdds_1 19 rfl rfl)
theorem dX0_findOdds_44 : decode cX0_findOdds 44 = .ok (.ifCond .eq 7, 3) := dk_153 0 7 (dk_at dksX0_findOdds_2 0 rfl rfl)
theorem dX0_findOdds_47 : decode cX0_findOdds 47 = .ok (.lconst 1, 1) := dk_10 (dk_at dksX0_findOdds_2 3 rfl rfl)
theorem dX0_findOdds_48 : decode cX0_findOdds 48 = .ok (.goto 6, 3) := dk_167 0 6 (dk_at dksX0_findOdds_2 4 rfl rfl)
theorem dX0_findOdds_51 : decode cX0_findOdds 51 = .ok (.ldc2_w 274, 3) := dk_20 1 18 (dk_at dksX0_findOdds_2 7 rfl rfl)
theorem dX0_findOdds_54 : decode cX0_findOdds 54 = .ok (.lmul, 1) := dk_105 (dk_at dksX0_findOdds_2 10 rfl rfl)
theorem dX0_findOdds_55 : decode cX0_findOdds 55 = .ok (.putfield 271, 3) := dk_181 1 15 (dk_at dksX0_findOdds_2 11 rfl rfl)
theorem dX0_findOdds_58 : decode cX0_findOdds 58 = .ok (.iinc 2 1, 3) := dk_132 2 1 (dk_at dksX0_findOdds_2 14 rfl rfl)
theorem dX0_findOdds_61 : decode cX0_findOdds 61 = .ok (.goto (-44), 3) := dk_167 255 212 (dk_at dksX0_findOdds_2 17 rfl rfl)
theorem dX0_findOdds_64 : decode cX0_findOdds 64 = .ok (.iconst 0, 1) := dk_3 (dk_at dksX0_findOdds_2 20 rfl rfl)
theorem dX0_findOdds_65 : decode cX0_findOdds 65 = .ok (.istore_n 2, 1) := dk_61 (dk_at dksX0_findOdds_2 21 rfl rfl)
theorem dX0_findOdds_66 : decode cX0_findOdds 66 = .ok (.iload_n 2, 1) := dk_28 (dk_at dksX0_findOdds_2 22 rfl rfl)
theorem dX0_findOdds_67 : decode cX0_findOdds 67 = .ok (.iconst 1, 1) := dk_4 (dk_at dksX0_findOdds_2 23 rfl rfl)
theorem dX0_findOdds_68 : decode cX0_findOdds 68 = .ok (.aload_n 0, 1) := dk_42 (dk_at dksX0_findOdds_3 0 rfl rfl)
theorem dX0_findOdds_69 : decode cX0_findOdds 69 = .ok (.getfield 107, 3) := dk_180 0 107 (dk_at dksX0_findOdds_3 1 rfl rfl)
theorem dX0_findOdds_72 : decode cX0_findOdds 72 = .ok (.getfield 188, 3) := dk_180 0 188 (dk_at dksX0_findOdds_3 4 rfl rfl)
theorem dX0_findOdds_75 : decode cX0_findOdds 75 = .ok (.ishl, 1) := dk_120 (dk_at dksX0_findOdds_3 7 rfl rfl)
theorem dX0_findOdds_76 : decode cX0_findOdds 76 = .ok (.if_icmp .ge 133, 3) := dk_162 0 133 (dk_at dksX0_findOdds_3 8 rfl rfl)
theorem dX0_findOdds_79 : decode cX0_findOdds 79 = .ok (.iload_n 2, 1) := dk_28 (dk_at dksX0_findOdds_3 11 rfl rfl)
theorem dX0_findOdds_80 : decode cX0_findOdds 80 = .ok (.aload_n 0, 1) := dk_42 (dk_at dksX0_findOdds_3 12 rfl rfl)
theorem dX0_findOdds_81 : decode cX0_findOdds 81 = .ok (.getfield 107, 3) := dk_180 0 107 (dk_at dksX0_findOdds_3 13 rfl rfl)
theorem dX0_findOdds_84 : decode cX0_findOdds 84 = .ok (.invokevirtual 193, 3) := dk_182 0 193 (dk_at dksX0_findOdds_3 16 rfl rfl)
theorem dX0_findOdds_87 : decode cX0_findOdds 87 = .ok (.iand, 1) := dk_126 (dk_at dksX0_findOdds_3 19 rfl rfl)
theorem dX0_findOdds_88 : decode cX0_findOdds 88 = .ok (.ifCond .ne 115, 3) := dk_154 0 115 (dk_at dksX0_findOdds_3 20 rfl rfl)
theorem dX0_findOdds_91 : decode cX0_findOdds 91 = .ok (.lconst 1, 1) := dk_10 (dk_at dksX0_findOdds_3 23 rfl rfl)
theorem dX0_findOdds_92 : decode cX0_findOdds 92 = .ok (.lstore_n 3, 1) := dk_66 (dk_at dksX0_findOdds_4 0 rfl rfl)
theorem dX0_findOdds_93 : decode cX0_findOdds 93 = .ok (.iconst 0, 1) := dk_3 (dk_at dksX0_findOdds_4 1 rfl rfl)
theorem dX0_findOdds_94 : decode cX0_findOdds 94 = .ok (.istore 5, 2) := dk_54 5 (dk_at dksX0_findOdds_4 2 rfl rfl)
theorem dX0_findOdds_96 : decode cX0_findOdds 96 = .ok (.iload 5, 2) := dk_21 5 (dk_at dksX0_findOdds_4 4 rfl rfl)
theorem dX0_findOdds_98 : decode cX0_findOdds 98 = .ok (.aload_n 0, 1) := dk_42 (dk_at dksX0_findOdds_4 6 rfl rfl)
theorem dX0_findOdds_99 : decode cX0_findOdds 99 = .ok (.getfield 107, 3) := dk_180 0 107 (dk_at dksX0_findOdds_4 7 rfl rfl)
theorem dX0_findOdds_102 : decode cX0_findOdds 102 = .ok (.getfield 188, 3) := dk_180 0 188 (dk_at dksX0_findOdds_4 10 rfl rfl)
theorem dX0_findOdds_105 : decode cX0_findOdds 105 = .ok (.if_icmp .ge 50, 3) := dk_162 0 50 (dk_at dksX0_findOdds_4 13 rfl rfl)
theorem dX0_findOdds_108 : decode cX0_findOdds 108 = .ok (.lload_n 3, 1) := dk_33 (dk_at dksX0_findOdds_4 16 rfl rfl)
theorem dX0_findOdds_109 : decode cX0_findOdds 109 = .ok (.aload_n 0, 1) := dk_42 (dk_at dksX0_findOdds_4 17 rfl rfl)
theorem dX0_findOdds_110 : decode cX0_findOdds 110 = .ok (.getfield 107, 3) := dk_180 0 107 (dk_at dksX0_findOdds_4 18 rfl rfl)
theorem dX0_findOdds_113 : decode cX0_findOdds 113 = .ok (.invokevirtual 193, 3) := dk_182 0 193 (dk_at dksX0_findOdds_4 21 rfl rfl)
theorem dX0_findOdds_116 : decode cX0_findOdds 116 = .ok (.iload 5, 2) := dk_21 5 (dk_at dksX0_findOdds_5 0 rfl rfl)
theorem dX0_findOdds_118 : decode cX0_findOdds 118 = .ok (.invokestatic 11, 3) := dk_184 0 11 (dk_at dksX0_findOdds_5 2 rfl rfl)
theorem dX0_findOdds_121 : decode cX0_findOdds 121 = .ok (.ifCond .eq 7, 3) := dk_153 0 7 (dk_at dksX0_findOdds_5 5 rfl rfl)
theorem dX0_findOdds_124 : decode cX0_findOdds 124 = .ok (.lconst 1, 1) := dk_10 (dk_at dksX0_findOdds_5 8 rfl rfl)
theorem dX0_findOdds_125 : decode cX0_findOdds 125 = .ok (.goto 22, 3) := dk_167 0 22 (dk_at dksX0_findOdds_5 9 rfl rfl)
theorem dX0_findOdds_128 : decode cX0_findOdds 128 = .ok (.iload_n 2, 1) := dk_28 (dk_at dksX0_findOdds_5 12 rfl rfl)
theorem dX0_findOdds_129 : decode cX0_findOdds 129 = .ok (.iload 5, 2) := dk_21 5 (dk_at dksX0_findOdds_5 13 rfl rfl)
theorem dX0_findOdds_131 : decode cX0_findOdds 131 = .ok (.invokestatic 11, 3) := dk_184 0 11 (dk_at dksX0_findOdds_5 15 rfl rfl)
theorem dX0_findOdds_134 : decode cX0_findOdds 134 = .ok (.ifCond .eq 8, 3) := dk_153 0 8 (dk_at dksX0_findOdds_5 18 rfl rfl)
theorem dX0_findOdds_137 : decode cX0_findOdds 137 = .ok (.iload_n 1, 1) := dk_27 (dk_at dksX0_findOdds_5 21 rfl rfl)
theorem dX0_findOdds_138 : decode cX0_findOdds 138 = .ok (.i2l, 1) := dk_133 (dk_at dksX0_findOdds_5 22 rfl rfl)
theorem dX0_findOdds_139 : decode cX0_findOdds 139 = .ok (.goto 8, 3) := dk_167 0 8 (dk_at dksX0_findOdds_6 0 rfl rfl)
theorem dX0_findOdds_142 : decode cX0_findOdds 142 = .ok (.bipush 10, 2) := dk_16 10 (dk_at dksX0_findOdds_6 3 rfl rfl)
theorem dX0_findOdds_144 : decode cX0_findOdds 144 = .ok (.iload_n 1, 1) := dk_27 (dk_at dksX0_findOdds_6 5 rfl rfl)
theorem dX0_findOdds_145 : decode cX0_findOdds 145 = .ok (.isub, 1) := dk_100 (dk_at dksX0_findOdds_6 6 rfl rfl)
theorem dX0_findOdds_146 : decode cX0_findOdds 146 = .ok (.i2l, 1) := dk_133 (dk_at dksX0_findOdds_6 7 rfl rfl)
theorem dX0_findOdds_147 : decode cX0_findOdds 147 = .ok (.lmul, 1) := dk_105 (dk_at dksX0_findOdds_6 8 rfl rfl)
theorem dX0_findOdds_148 : decode cX0_findOdds 148 = .ok (.lstore_n 3, 1) := dk_66 (dk_at dksX0_findOdds_6 9 rfl rfl)
theorem dX0_findOdds_149 : decode cX0_findOdds 149 = .ok (.iinc 5 1, 3) := dk_132 5 1 (dk_at dksX0_findOdds_6 10 rfl rfl)
theorem dX0_findOdds_152 : decode cX0_findOdds 152 = .ok (.goto (-56), 3) := dk_167 255 200 (dk_at dksX0_findOdds_6 13 rfl rfl)
theorem dX0_findOdds_155 : decode cX0_findOdds 155 = .ok (.aload_n 0, 1) := dk_42 (dk_at dksX0_findOdds_6 16 rfl rfl)
theorem dX0_findOdds_156 : decode cX0_findOdds 156 = .ok (.iload_n 2, 1) := dk_28 (dk_at dksX0_findOdds_6 17 rfl rfl)
theorem dX0_findOdds_157 : decode cX0_findOdds 157 = .ok (.invokevirtual 247, 3) := dk_182 0 247 (dk_at dksX0_findOdds_6 18 rfl rfl)
theorem dX0_findOdds_160 : decode cX0_findOdds 160 = .ok (.aload_n 0, 1) := dk_42 (dk_at dksX0_findOdds_6 21 rfl rfl)
theorem dX0_findOdds_161 : decode cX0_findOdds 161 = .ok (.dup, 1) := dk_89 (dk_at dksX0_findOdds_6 22 rfl rfl)
theorem dX0_findOdds_162 : decode cX0_findOdds 162 = .ok (.getfield 264, 3) := dk_180 1 8 (dk_at dksX0_findOdds_7 0 rfl rfl)
theorem dX0_findOdds_165 : decode cX0_findOdds 165 = .ok (.lload_n 3, 1) := dk_33 (dk_at dksX0_findOdds_7 3 rfl rfl)
theorem dX0_findOdds_166 : decode cX0_findOdds 166 = .ok (.aload_n 0, 1) := dk_42 (dk_at dksX0_findOdds_7 4 rfl rfl)
theorem dX0_findOdds_167 : decode cX0_findOdds 167 = .ok (.aload_n 0, 1) := dk_42 (dk_at dksX0_findOdds_7 5 rfl rfl)
theorem dX0_findOdds_168 : decode cX0_findOdds 168 = .ok (.getfield 111, 3) := dk_180 0 111 (dk_at dksX0_findOdds_7 6 rfl rfl)
theorem dX0_findOdds_171 : decode cX0_findOdds 171 = .ok (.invokevirtual 230, 3) := dk_182 0 230 (dk_at dksX0_findOdds_7 9 rfl rfl)
theorem dX0_findOdds_174 : decode cX0_findOdds 174 = .ok (.i2l, 1) := dk_133 (dk_at dksX0_findOdds_7 12 rfl rfl)
theorem dX0_findOdds_175 : decode cX0_findOdds 175 = .ok (.lmul, 1) := dk_105 (dk_at dksX0_findOdds_7 13 rfl rfl)
theorem dX0_findOdds_176 : decode cX0_findOdds 176 = .ok (.ladd, 1) := dk_97 (dk_at dksX0_findOdds_7 14 rfl rfl)
theorem dX0_findOdds_177 : decode cX0_findOdds 177 = .ok (.putfield 264, 3) := dk_181 1 8 (dk_at dksX0_findOdds_7 15 rfl rfl)
theorem dX0_findOdds_180 : decode cX0_findOdds 180 = .ok (.aload_n 0, 1) := dk_42 (dk_at dksX0_findOdds_7 18 rfl rfl)
theorem dX0_findOdds_181 : decode cX0_findOdds 181 = .ok (.dup, 1) := dk_89 (dk_at dksX0_findOdds_7 19 rfl rfl)
theorem dX0_findOdds_182 : decode cX0_findOdds 182 = .ok (.getfield 268, 3) := dk_180 1 12 (dk_at dksX0_findOdds_7 20 rfl rfl)
theorem dX0_findOdds_185 : decode cX0_findOdds 185 = .ok (.aload_n 0, 1) := dk_42 (dk_at dksX0_findOdds_7 23 rfl rfl)
theorem dX0_findOdds_186 : decode cX0_findOdds 186 = .ok (.getfield 41, 3) := dk_180 0 41 (dk_at dksX0_findOdds_8 0 rfl rfl)
theorem dX0_findOdds_189 : decode cX0_findOdds 189 = .ok (.bipush (-4), 2) := dk_16 252 (dk_at dksX0_findOdds_8 3 rfl rfl)
theorem dX0_findOdds_191 : decode cX0_findOdds 191 = .ok (.if_icmp .ne 7, 3) := dk_160 0 7 (dk_at dksX0_findOdds_8 5 rfl rfl)
theorem dX0_findOdds_194 : decode cX0_findOdds 194 = .ok (.lload_n 3, 1) := dk_33 (dk_at dksX0_findOdds_8 8 rfl rfl)
theorem dX0_findOdds_195 : decode cX0_findOdds 195 = .ok (.goto 4, 3) := dk_167 0 4 (dk_at dksX0_findOdds_8 9 rfl rfl)
theorem dX0_findOdds_198 : decode cX0_findOdds 198 = .ok (.lconst 0, 1) := dk_9 (dk_at dksX0_findOdds_8 12 rfl rfl)
theorem dX0_findOdds_199 : decode cX0_findOdds 199 = .ok (.ladd, 1) := dk_97 (dk_at dksX0_findOdds_8 13 rfl rfl)
theorem dX0_findOdds_200 : decode cX0_findOdds 200 = .ok (.putfield 268, 3) := dk_181 1 12 (dk_at dksX0_findOdds_8 14 rfl rfl)
theorem dX0_findOdds_203 : decode cX0_findOdds 203 = .ok (.iinc 2 1, 3) := dk_132 2 1 (dk_at dksX0_findOdds_8 17 rfl rfl)
theorem dX0_findOdds_206 : decode cX0_findOdds 206 = .ok (.goto (-140), 3) := dk_167 255 116 (dk_at dksX0_findOdds_8 20 rfl rfl)
theorem dX0_findOdds_209 : decode cX0_findOdds 209 = .ok (.return_, 1) := dk_177 (dk_at dksX0_findOdds_8 23 rfl rfl)
def dkwX0_lowest_1 : List UInt8 := [22, 9, 55, 7, 167, 255, 234, 21, 4, 154, 0, 10, 30, 22, 5, 109, 167, 0, 7, 32, 22, 5, 109, 173]
abbrev dktX0_lowest_1 : List UInt8 := dkwX0_lowest_1 ++ []
def dkwX0_lowest_0 : List UInt8 := [32, 55, 5, 30, 55, 7, 22, 7, 9, 148, 153, 0, 21, 22, 5, 22, 7, 113, 55, 9, 22, 7, 55, 5]
abbrev dktX0_lowest_0 : List UInt8 := dkwX0_lowest_0 ++ dktX0_lowest_1
theorem dksX0_lowest_0 : cX0_lowest.data.toList.drop 0 = dktX0_lowest_0 := by decide +kernel
theorem dksX0_lowest_1 : cX0_lowest.data.toList.drop 24 = dktX0_lowest_1 := dk_seg dksX0_lowest_0 24 rfl rfl
theorem dX0_lowest_0 : decode cX0_lowest 0 = .ok (.lload_n 2, 1) := dk_32 (dk_at dksX0_lowest_0 0 rfl rfl)
theorem dX0_lowest_1 : decode cX0_lowest 1 = .ok (.lstore 5, 2) := dk_55 5 (dk_at dksX0_lowest_0 1 rfl rfl)
theorem dX0_lowest_3 : decode cX0_lowest 3 = .ok (.lload_n 0, 1) := dk_30 (dk_at dksX0_lowest_0 3 rfl rfl)
theorem dX0_lowest_4 : decode cX0_lowest 4 = .ok (.lstore 7, 2) := dk_55 7 (dk_at dksX0_lowest_0 4 rfl rfl)
theorem dX0_lowest_6 : decode cX0_lowest 6 = .ok (.lload 7, 2) := dk_22 7 (dk_at dksX0_lowest_0 6 rfl rfl)
theorem dX0_lowest_8 : decode cX0_lowest 8 = .ok (.lconst 0, 1) := dk_9 (dk_at dksX0_lowest_0 8 rfl rfl)
theorem dX0_lowest_9 : decode cX0_lowest 9 = .ok (.lcmp, 1) := dk_148 (dk_at dksX0_lowest_0 9 rfl rfl)
theorem dX0_lowest_10 : decode cX0_lowest 10 = .ok (.ifCond .eq 21, 3) := dk_153 0 21 (dk_at dksX0_lowest_0 10 rfl rfl)
theorem dX0_lowest_13 : decode cX0_lowest 13 = .ok (.lload 5, 2) := dk_22 5 (dk_at dksX0_lowest_0 13 rfl rfl)
theorem dX0_lowest_15 : decode cX0_lowest 15 = .ok (.lload 7, 2) := dk_22 7 (dk_at dksX0_lowest_0 15 rfl rfl)
theorem dX0_lowest_17 : decode cX0_lowest 17 = .ok (.lrem, 1) := dk_113 (dk_at dksX0_lowest_0 17 rfl rfl)
theorem dX0_lowest_18 : decode cX0_lowest 18 = .ok (.lstore 9, 2) := dk_55 9 (dk_at dksX0_lowest_0 18 rfl rfl)
theorem dX0_lowest_20 : decode cX0_lowest 20 = .ok (.lload 7, 2) := dk_22 7 (dk_at dksX0_lowest_0 20 rfl rfl)
theorem dX0_lowest_22 : decode cX0_lowest 22 = .ok (.lstore 5, 2) := dk_55 5 (dk_at dksX0_lowest_0 22 rfl rfl)
theorem dX0_lowest_24 : decode cX0_lowest 24 = .ok (.lload 9, 2) := dk_22 9 (dk_at dksX0_lowest_1 0 rfl rfl)
theorem dX0_lowest_26 : decode cX0_lowest 26 = .ok (.lstore 7, 2) := dk_55 7 (dk_at dksX0_lowest_1 2 rfl rfl)
theorem dX0_lowest_28 : decode cX0_lowest 28 = .ok (.goto (-22), 3) := dk_167 255 234 (dk_at dksX0_lowest_1 4 rfl rfl)
theorem dX0_lowest_31 : decode cX0_lowest 31 = .ok (.iload 4, 2) := dk_21 4 (dk_at dksX0_lowest_1 7 rfl rfl)
theorem dX0_lowest_33 : decode cX0_lowest 33 = .ok (.ifCond .ne 10, 3) := dk_154 0 10 (dk_at dksX0_lowest_1 9 rfl rfl)
theorem dX0_lowest_36 : decode cX0_lowest 36 = .ok (.lload_n 0, 1) := dk_30 (dk_at dksX0_lowest_1 12 rfl rfl)
theorem dX0_lowest_37 : decode cX0_lowest 37 = .ok (.lload 5, 2) := dk_22 5 (dk_at dksX0_lowest_1 13 rfl rfl)
theorem dX0_lowest_39 : decode cX0_lowest 39 = .ok (.ldiv, 1) := dk_109 (dk_at dksX0_lowest_1 15 rfl rfl)
theorem dX0_lowest_40 : decode cX0_lowest 40 = .ok (.goto 7, 3) := dk_167 0 7 (dk_at dksX0_lowest_1 16 rfl rfl)
theorem dX0_lowest_43 : decode cX0_lowest 43 = .ok (.lload_n 2, 1) := dk_32 (dk_at dksX0_lowest_1 19 rfl rfl)
theorem dX0_lowest_44 : decode cX0_lowest 44 = .ok (.lload 5, 2) := dk_22 5 (dk_at dksX0_lowest_1 20 rfl rfl)
theorem dX0_lowest_46 : decode cX0_lowest 46 = .ok (.ldiv, 1) := dk_109 (dk_at dksX0_lowest_1 22 rfl rfl)
theorem dX0_lowest_47 : decode cX0_lowest 47 = .ok (.lreturn, 1) := dk_173 (dk_at dksX0_lowest_1 23 rfl rfl)
def dkwX0_luck_1 : List UInt8 := [27, 182, 1, 22, 42, 180, 1, 12, 42, 180, 1, 15, 28, 184, 1, 25, 173]
abbrev dktX0_luck_1 : List UInt8 := dkwX0_luck_1 ++ []
def dkwX0_luck_0 : List UInt8 := [27, 133, 9, 20, 1, 18, 184, 0, 136, 153, 0, 10, 28, 184, 0, 202, 154, 0, 7, 20, 1, 20, 173, 42]
abbrev dktX0_luck_0 : List UInt8 := dkwX0_luck_0 ++ dktX0_luck_1
theorem dksX0_luck_0 : cX0_luck.data.toList.drop 0 = dktX0_luck_0 := by decide +kernel
theorem dksX0_luck_1 : cX0_luck.data.toList.drop 24 = dktX0_luck_1 := dk_seg dksX0_luck_0 24 rfl rfl
theorem dX0_luck_0 : decode cX0_luck 0 = .ok (.iload_n 1, 1) := dk_27 (dk_at dksX0_luck_0 0 rfl rfl)
theorem dX0_luck_1 : decode cX0_luck 1 = .ok (.i2l, 1) := dk_133 (dk_at dksX0_luck_0 1 rfl rfl)
theorem dX0_luck_2 : decode cX0_luck 2 = .ok (.lconst 0, 1) := dk_9 (dk_at dksX0_luck_0 2 rfl rfl)
theorem dX0_luck_3 : decode cX0_luck 3 = .ok (.ldc2_w 274, 3) := dk_20 1 18 (dk_at dksX0_luck_0 3 rfl rfl)
theorem dX0_luck_6 : decode cX0_luck 6 = .ok (.invokestatic 136, 3) := dk_184 0 136 (dk_at dksX0_luck_0 6 rfl rfl)
theorem dX0_luck_9 : decode cX0_luck 9 = .ok (.ifCond .eq 10, 3) := dk_153 0 10 (dk_at dksX0_luck_0 9 rfl rfl)
theorem dX0_luck_12 : decode cX0_luck 12 = .ok (.iload_n 2, 1) := dk_28 (dk_at dksX0_luck_0 12 rfl rfl)
theorem dX0_luck_13 : decode cX0_luck 13 = .ok (.invokestatic 202, 3) := dk_184 0 202 (dk_at dksX0_luck_0 13 rfl rfl)
theorem dX0_luck_16 : decode cX0_luck 16 = .ok (.ifCond .ne 7, 3) := dk_154 0 7 (dk_at dksX0_luck_0 16 rfl rfl)
theorem dX0_luck_19 : decode cX0_luck 19 = .ok (.ldc2_w 276, 3) := dk_20 1 20 (dk_at dksX0_luck_0 19 rfl rfl)
theorem dX0_luck_22 : decode cX0_luck 22 = .ok (.lreturn, 1) := dk_173 (dk_at dksX0_luck_0 22 rfl rfl)
theorem dX0_luck_23 : decode cX0_luck 23 = .ok (.aload_n 0, 1) := dk_42 (dk_at dksX0_luck_0 23 rfl rfl)
theorem dX0_luck_24 : decode cX0_luck 24 = .ok (.iload_n 1, 1) := dk_27 (dk_at dksX0_luck_1 0 rfl rfl)
theorem dX0_luck_25 : decode cX0_luck 25 = .ok (.invokevirtual 278, 3) := dk_182 1 22 (dk_at dksX0_luck_1 1 rfl rfl)
theorem dX0_luck_28 : decode cX0_luck 28 = .ok (.aload_n 0, 1) := dk_42 (dk_at dksX0_luck_1 4 rfl rfl)
theorem dX0_luck_29 : decode cX0_luck 29 = .ok (.getfield 268, 3) := dk_180 1 12 (dk_at dksX0_luck_1 5 rfl rfl)
theorem dX0_luck_32 : decode cX0_luck 32 = .ok (.aload_n 0, 1) := dk_42 (dk_at dksX0_luck_1 8 rfl rfl)
theorem dX0_luck_33 : decode cX0_luck 33 = .ok (.getfield 271, 3) := dk_180 1 15 (dk_at dksX0_luck_1 9 rfl rfl)
theorem dX0_luck_36 : decode cX0_luck 36 = .ok (.iload_n 2, 1) := dk_28 (dk_at dksX0_luck_1 12 rfl rfl)
theorem dX0_luck_37 : decode cX0_luck 37 = .ok (.invokestatic 281, 3) := dk_184 1 25 (dk_at dksX0_luck_1 13 rfl rfl)
theorem dX0_luck_40 : decode cX0_luck 40 = .ok (.lreturn, 1) := dk_173 (dk_at dksX0_luck_1 16 rfl rfl)
def dkwX0_see_4 : List UInt8 := [181, 0, 174, 42, 180, 0, 174, 172]
abbrev dktX0_see_4 : List UInt8 := dkwX0_see_4 ++ []
def dkwX0_see_3 : List UInt8 := [42, 180, 0, 118, 6, 42, 180, 0, 174, 104, 5, 96, 29, 145, 84, 42, 89, 180, 0, 174, 4, 96]
abbrev dktX0_see_3 : List UInt8 := dkwX0_see_3 ++ dktX0_see_4
def dkwX0_see_2 : List UInt8 := [6, 42, 180, 0, 174, 104, 27, 145, 84, 42, 180, 0, 118, 6, 42, 180, 0, 174, 104, 4, 96, 28, 145, 84]
abbrev dktX0_see_2 : List UInt8 := dkwX0_see_2 ++ dktX0_see_3
def dkwX0_see_1 : List UInt8 := [182, 0, 196, 154, 0, 5, 2, 172, 42, 180, 0, 174, 16, 6, 160, 0, 6, 16, 253, 172, 42, 180, 0, 118]
abbrev dktX0_see_1 : List UInt8 := dkwX0_see_1 ++ dktX0_see_2
def dkwX0_see_0 : List UInt8 := [42, 27, 182, 0, 205, 153, 0, 24, 28, 184, 0, 227, 153, 0, 17, 29, 16, 252, 159, 0, 13, 42, 29]
abbrev dktX0_see_0 : List UInt8 := dkwX0_see_0 ++ dktX0_see_1
theorem dksX0_see_0 : cX0_see.data.toList.drop 0 = dktX0_see_0 := by decide +kernel
theorem dksX0_see_1 : cX0_see.data.toList.drop 23 = dktX0_see_1 := dk_seg dksX0_see_0 23 rfl rfl
theorem dksX0_see_2 : cX0_see.data.toList.drop 47 = dktX0_see_2 := dk_seg dksX0_see_1 24 rfl rfl
theorem dksX0_see_3 : cX0_see.data.toList.drop 71 = dktX0_see_3 := dk_seg dksX0_see_2 24 rfl rfl
theorem dksX0_see_4 : cX0_see.data.toList.drop 93 = dktX0_see_4 := dk_seg dksX0_see_3 22 rfl rfl
theorem dX0_see_0 : decode cX0_see 0 = .ok (.aload_n 0, 1) := dk_42 (dk_at dksX0_see_0 0 rfl rfl)
theorem dX0_see_1 : decode cX0_see 1 = .ok (.iload_n 1, 1) := dk_27 (dk_at dksX0_see_0 1 rfl rfl)
theorem dX0_see_2 : decode cX0_see 2 = .ok (.invokevirtual 205, 3) := dk_182 0 205 (dk_at dksX0_see_0 2 rfl rfl)
theorem dX0_see_5 : decode cX0_see 5 = .ok (.ifCond .eq 24, 3) := dk_153 0 24 (dk_at dksX0_see_0 5 rfl rfl)
theorem dX0_see_8 : decode cX0_see 8 = .ok (.iload_n 2, 1) := dk_28 (dk_at dksX0_see_0 8 rfl rfl)
theorem dX0_see_9 : decode cX0_see 9 = .ok (.invokestatic 227, 3) := dk_184 0 227 (dk_at dksX0_see_0 9 rfl rfl)
theorem dX0_see_12 : decode cX0_see 12 = .ok (.ifCond .eq 17, 3) := dk_153 0 17 (dk_at dksX0_see_0 12 rfl rfl)
theorem dX0_see_15 : decode cX0_see 15 = .ok (.iload_n 3, 1) := dk_29 (dk_at dksX0_see_0 15 rfl rfl)
theorem dX0_see_16 : decode cX0_see 16 = .ok (.bipush (-4), 2) := dk_16 252 (dk_at dksX0_see_0 16 rfl rfl)
theorem dX0_see_18 : decode cX0_see 18 = .ok (.if_icmp .eq 13, 3) := dk_159 0 13 (dk_at dksX0_see_0 18 rfl rfl)
theorem dX0_see_21 : decode cX0_see 21 = .ok (.aload_n 0, 1) := dk_42 (dk_at dksX0_see_0 21 rfl rfl)
theorem dX0_see_22 : decode cX0_see 22 = .ok (.iload_n 3, 1) := dk_29 (dk_at dksX0_see_0 22 rfl rfl)
theorem dX0_see_23 : decode cX0_see 23 = .ok (.invokevirtual 196, 3) := dk_182 0 196 (dk_at dksX0_see_1 0 rfl rfl)
theorem dX0_see_26 : decode cX0_see 26 = .ok (.ifCond .ne 5, 3) := dk_154 0 5 (dk_at dksX0_see_1 3 rfl rfl)
theorem dX0_see_29 : decode cX0_see 29 = .ok (.iconst (-1), 1) := dk_2 (dk_at dksX0_see_1 6 rfl rfl)
theorem dX0_see_30 : decode cX0_see 30 = .ok (.ireturn, 1) := dk_172 (dk_at dksX0_see_1 7 rfl rfl)
theorem dX0_see_31 : decode cX0_see 31 = .ok (.aload_n 0, 1) := dk_42 (dk_at dksX0_see_1 8 rfl rfl)
theorem dX0_see_32 : decode cX0_see 32 = .ok (.getfield 174, 3) := dk_180 0 174 (dk_at dksX0_see_1 9 rfl rfl)
theorem dX0_see_35 : decode cX0_see 35 = .ok (.bipush 6, 2) := dk_16 6 (dk_at dksX0_see_1 12 rfl rfl)
theorem dX0_see_37 : decode cX0_see 37 = .ok (.if_icmp .ne 6, 3) := dk_160 0 6 (dk_at dksX0_see_1 14 rfl rfl)
theorem dX0_see_40 : decode cX0_see 40 = .ok (.bipush (-3), 2) := dk_16 253 (dk_at dksX0_see_1 17 rfl rfl)
theorem dX0_see_42 : decode cX0_see 42 = .ok (.ireturn, 1) := dk_172 (dk_at dksX0_see_1 19 rfl rfl)
theorem dX0_see_43 : decode cX0_see 43 = .ok (.aload_n 0, 1) := dk_42 (dk_at dksX0_see_1 20 rfl rfl)
theorem dX0_see_44 : decode cX0_see 44 = .ok (.getfield 118, 3) := dk_180 0 118 (dk_at dksX0_see_1 21 rfl rfl)
theorem dX0_see_47 : decode cX0_see 47 = .ok (.iconst 3, 1) := dk_6 (dk_at dksX0_see_2 0 rfl rfl)
theorem dX0_see_48 : decode cX0_see 48 = .ok (.aload_n 0, 1) := dk_42 (dk_at dksX0_see_2 1 rfl rfl)
theorem dX0_see_49 : decode cX0_see 49 = .ok (.getfield 174, 3) := dk_180 0 174 (dk_at dksX0_see_2 2 rfl rfl)
theorem dX0_see_52 : decode cX0_see 52 = .ok (.imul, 1) := dk_104 (dk_at dksX0_see_2 5 rfl rfl)
theorem dX0_see_53 : decode cX0_see 53 = .ok (.iload_n 1, 1) := dk_27 (dk_at dksX0_see_2 6 rfl rfl)
theorem dX0_see_54 : decode cX0_see 54 = .ok (.i2b, 1) := dk_145 (dk_at dksX0_see_2 7 rfl rfl)
theorem dX0_see_55 : decode cX0_see 55 = .ok (.bastore, 1) := dk_84 (dk_at dksX0_see_2 8 rfl rfl)
theorem dX0_see_56 : decode cX0_see 56 = .ok (.aload_n 0, 1) := dk_42 (dk_at dksX0_see_2 9 rfl rfl)
theorem dX0_see_57 : decode cX0_see 57 = .ok (.getfield 118, 3) := dk_180 0 118 (dk_at dksX0_see_2 10 rfl rfl)
theorem dX0_see_60 : decode cX0_see 60 = .ok (.iconst 3, 1) := dk_6 (dk_at dksX0_see_2 13 rfl rfl)
theorem dX0_see_61 : decode cX0_see 61 = .ok (.aload_n 0, 1) := dk_42 (dk_at dksX0_see_2 14 rfl rfl)
theorem dX0_see_62 : decode cX0_see 62 = .ok (.getfield 174, 3) := dk_180 0 174 (dk_at dksX0_see_2 15 rfl rfl)
theorem dX0_see_65 : decode cX0_see 65 = .ok (.imul, 1) := dk_104 (dk_at dksX0_see_2 18 rfl rfl)
theorem dX0_see_66 : decode cX0_see 66 = .ok (.iconst 1, 1) := dk_4 (dk_at dksX0_see_2 19 rfl rfl)
theorem dX0_see_67 : decode cX0_see 67 = .ok (.iadd, 1) := dk_96 (dk_at dksX0_see_2 20 rfl rfl)
theorem dX0_see_68 : decode cX0_see 68 = .ok (.iload_n 2, 1) := dk_28 (dk_at dksX0_see_2 21 rfl rfl)
theorem dX0_see_69 : decode cX0_see 69 = .ok (.i2b, 1) := dk_145 (dk_at dksX0_see_2 22 rfl rfl)
theorem dX0_see_70 : decode cX0_see 70 = .ok (.bastore, 1) := dk_84 (dk_at dksX0_see_2 23 rfl rfl)
theorem dX0_see_71 : decode cX0_see 71 = .ok (.aload_n 0, 1) := dk_42 (dk_at dksX0_see_3 0 rfl rfl)
theorem dX0_see_72 : decode cX0_see 72 = .ok (.getfield 118, 3) := dk_180 0 118 (dk_at dksX0_see_3 1 rfl rfl)
theorem dX0_see_75 : decode cX0_see 75 = .ok (.iconst 3, 1) := dk_6 (dk_at dksX0_see_3 4 rfl rfl)
theorem dX0_see_76 : decode cX0_see 76 = .ok (.aload_n 0, 1) := dk_42 (dk_at dksX0_see_3 5 rfl rfl)
theorem dX0_see_77 : decode cX0_see 77 = .ok (.getfield 174, 3) := dk_180 0 174 (dk_at dksX0_see_3 6 rfl rfl)
theorem dX0_see_80 : decode cX0_see 80 = .ok (.imul, 1) := dk_104 (dk_at dksX0_see_3 9 rfl rfl)
theorem dX0_see_81 : decode cX0_see 81 = .ok (.iconst 2, 1) := dk_5 (dk_at dksX0_see_3 10 rfl rfl)
theorem dX0_see_82 : decode cX0_see 82 = .ok (.iadd, 1) := dk_96 (dk_at dksX0_see_3 11 rfl rfl)
theorem dX0_see_83 : decode cX0_see 83 = .ok (.iload_n 3, 1) := dk_29 (dk_at dksX0_see_3 12 rfl rfl)
theorem dX0_see_84 : decode cX0_see 84 = .ok (.i2b, 1) := dk_145 (dk_at dksX0_see_3 13 rfl rfl)
theorem dX0_see_85 : decode cX0_see 85 = .ok (.bastore, 1) := dk_84 (dk_at dksX0_see_3 14 rfl rfl)
theorem dX0_see_86 : decode cX0_see 86 = .ok (.aload_n 0, 1) := dk_42 (dk_at dksX0_see_3 15 rfl rfl)
theorem dX0_see_87 : decode cX0_see 87 = .ok (.dup, 1) := dk_89 (dk_at dksX0_see_3 16 rfl rfl)
theorem dX0_see_88 : decode cX0_see 88 = .ok (.getfield 174, 3) := dk_180 0 174 (dk_at dksX0_see_3 17 rfl rfl)
theorem dX0_see_91 : decode cX0_see 91 = .ok (.iconst 1, 1) := dk_4 (dk_at dksX0_see_3 20 rfl rfl)
theorem dX0_see_92 : decode cX0_see 92 = .ok (.iadd, 1) := dk_96 (dk_at dksX0_see_3 21 rfl rfl)
theorem dX0_see_93 : decode cX0_see 93 = .ok (.putfield 174, 3) := dk_181 0 174 (dk_at dksX0_see_4 0 rfl rfl)
theorem dX0_see_96 : decode cX0_see 96 = .ok (.aload_n 0, 1) := dk_42 (dk_at dksX0_see_4 3 rfl rfl)
theorem dX0_see_97 : decode cX0_see 97 = .ok (.getfield 174, 3) := dk_180 0 174 (dk_at dksX0_see_4 4 rfl rfl)
theorem dX0_see_100 : decode cX0_see 100 = .ok (.ireturn, 1) := dk_172 (dk_at dksX0_see_4 7 rfl rfl)
def dkwX0_forget_1 : List UInt8 := [181, 0, 174, 28, 172]
abbrev dktX0_forget_1 : List UInt8 := dkwX0_forget_1 ++ []
def dkwX0_forget_0 : List UInt8 := [27, 133, 9, 42, 180, 0, 174, 133, 184, 0, 136, 154, 0, 5, 2, 172, 42, 180, 0, 174, 61, 42, 27]
abbrev dktX0_forget_0 : List UInt8 := dkwX0_forget_0 ++ dktX0_forget_1
theorem dksX0_forget_0 : cX0_forget.data.toList.drop 0 = dktX0_forget_0 := by decide +kernel
theorem dksX0_forget_1 : cX0_forget.data.toList.drop 23 = dktX0_forget_1 := dk_seg dksX0_forget_0 23 rfl rfl
theorem dX0_forget_0 : decode cX0_forget 0 = .ok (.iload_n 1, 1) := dk_27 (dk_at dksX0_forget_0 0 rfl rfl)
theorem dX0_forget_1 : decode cX0_forget 1 = .ok (.i2l, 1) := dk_133 (dk_at dksX0_forget_0 1 rfl rfl)
theorem dX0_forget_2 : decode cX0_forget 2 = .ok (.lconst 0, 1) := dk_9 (dk_at dksX0_forget_0 2 rfl rfl)
theorem dX0_forget_3 : decode cX0_forget 3 = .ok (.aload_n 0, 1) := dk_42 (dk_at dksX0_forget_0 3 rfl rfl)
theorem dX0_forget_4 : decode cX0_forget 4 = .ok (.getfield 174, 3) := dk_180 0 174 (dk_at dksX0_forget_0 4 rfl rfl)
theorem dX0_forget_7 : decode cX0_forget 7 = .ok (.i2l, 1) := dk_133 (dk_at dksX0_forget_0 7 rfl rfl)
theorem dX0_forget_8 : decode cX0_forget 8 = .ok (.invokestatic 136, 3) := dk_184 0 136 (dk_at dksX0_forget_0 8 rfl rfl)
theorem dX0_forget_11 : decode cX0_forget 11 = .ok (.ifCond .ne 5, 3) := dk_154 0 5 (dk_at dksX0_forget_0 11 rfl rfl)
theorem dX0_forget_14 : decode cX0_forget 14 = .ok (.iconst (-1), 1) := dk_2 (dk_at dksX0_forget_0 14 rfl rfl)
theorem dX0_forget_15 : decode cX0_forget 15 = .ok (.ireturn, 1) := dk_172 (dk_at dksX0_forget_0 15 rfl rfl)
theorem dX0_forget_16 : decode cX0_forget 16 = .ok (.aload_n 0, 1) := dk_42 (dk_at dksX0_forget_0 16 rfl rfl)
theorem dX0_forget_17 : decode cX0_forget 17 = .ok (.getfield 174, 3) := dk_180 0 174 (dk_at dksX0_forget_0 17 rfl rfl)
theorem dX0_forget_20 : decode cX0_forget 20 = .ok (.istore_n 2, 1) := dk_61 (dk_at dksX0_forget_0 20 rfl rfl)
theorem dX0_forget_21 : decode cX0_forget 21 = .ok (.aload_n 0, 1) := dk_42 (dk_at dksX0_forget_0 21 rfl rfl)
theorem dX0_forget_22 : decode cX0_forget 22 = .ok (.iload_n 1, 1) := dk_27 (dk_at dksX0_forget_0 22 rfl rfl)
theorem dX0_forget_23 : decode cX0_forget 23 = .ok (.putfield 174, 3) := dk_181 0 174 (dk_at dksX0_forget_1 0 rfl rfl)
theorem dX0_forget_26 : decode cX0_forget 26 = .ok (.iload_n 2, 1) := dk_28 (dk_at dksX0_forget_1 3 rfl rfl)
theorem dX0_forget_27 : decode cX0_forget 27 = .ok (.ireturn, 1) := dk_172 (dk_at dksX0_forget_1 4 rfl rfl)
def dkwX0_fits_0 : List UInt8 := [42, 27, 182, 0, 205, 153, 0, 11, 42, 27, 182, 1, 29, 167, 0, 4, 2, 172]
abbrev dktX0_fits_0 : List UInt8 := dkwX0_fits_0 ++ []
theorem dksX0_fits_0 : cX0_fits.data.toList.drop 0 = dktX0_fits_0 := by decide +kernel
theorem dX0_fits_0 : decode cX0_fits 0 = .ok (.aload_n 0, 1) := dk_42 (dk_at dksX0_fits_0 0 rfl rfl)
theorem dX0_fits_1 : decode cX0_fits 1 = .ok (.iload_n 1, 1) := dk_27 (dk_at dksX0_fits_0 1 rfl rfl)
theorem dX0_fits_2 : decode cX0_fits 2 = .ok (.invokevirtual 205, 3) := dk_182 0 205 (dk_at dksX0_fits_0 2 rfl rfl)
theorem dX0_fits_5 : decode cX0_fits 5 = .ok (.ifCond .eq 11, 3) := dk_153 0 11 (dk_at dksX0_fits_0 5 rfl rfl)
theorem dX0_fits_8 : decode cX0_fits 8 = .ok (.aload_n 0, 1) := dk_42 (dk_at dksX0_fits_0 8 rfl rfl)
theorem dX0_fits_9 : decode cX0_fits 9 = .ok (.iload_n 1, 1) := dk_27 (dk_at dksX0_fits_0 9 rfl rfl)
theorem dX0_fits_10 : decode cX0_fits 10 = .ok (.invokevirtual 285, 3) := dk_182 1 29 (dk_at dksX0_fits_0 10 rfl rfl)
theorem dX0_fits_13 : decode cX0_fits 13 = .ok (.goto 4, 3) := dk_167 0 4 (dk_at dksX0_fits_0 13 rfl rfl)
theorem dX0_fits_16 : decode cX0_fits 16 = .ok (.iconst (-1), 1) := dk_2 (dk_at dksX0_fits_0 16 rfl rfl)
theorem dX0_fits_17 : decode cX0_fits 17 = .ok (.ireturn, 1) := dk_172 (dk_at dksX0_fits_0 17 rfl rfl)
def dkwX0_fitting_7 : List UInt8 := [4, 29, 120, 167, 0, 4, 3, 128, 61, 132, 3, 1, 167, 255, 83, 28, 172]
abbrev dktX0_fitting_7 : List UInt8 := dkwX0_fitting_7 ++ []
def dkwX0_fitting_6 : List UInt8 := [51, 160, 0, 7, 4, 167, 0, 4, 3, 126, 54, 4, 132, 5, 1, 167, 255, 187, 28, 21, 4, 153, 0, 9]
abbrev dktX0_fitting_6 : List UInt8 := dkwX0_fitting_6 ++ dktX0_fitting_7
def dkwX0_fitting_5 : List UInt8 := [180, 0, 118, 6, 21, 5, 104, 4, 96, 51, 104, 27, 96, 51, 42, 180, 0, 118, 6, 21, 5, 104, 5, 96]
abbrev dktX0_fitting_5 : List UInt8 := dkwX0_fitting_5 ++ dktX0_fitting_6
def dkwX0_fitting_4 : List UInt8 := [162, 0, 66, 21, 4, 42, 180, 0, 118, 6, 21, 5, 104, 51, 27, 160, 0, 37, 42, 180, 0, 87, 7, 42]
abbrev dktX0_fitting_4 : List UInt8 := dkwX0_fitting_4 ++ dktX0_fitting_5
def dkwX0_fitting_3 : List UInt8 := [21, 5, 104, 27, 96, 51, 84, 132, 5, 1, 167, 255, 224, 3, 54, 5, 21, 5, 42, 180, 0, 174]
abbrev dktX0_fitting_3 : List UInt8 := dkwX0_fitting_3 ++ dktX0_fitting_4
def dkwX0_fitting_2 : List UInt8 := [54, 5, 21, 5, 16, 120, 162, 0, 31, 42, 180, 0, 124, 7, 21, 5, 104, 29, 96, 42, 180, 0, 87, 7]
abbrev dktX0_fitting_2 : List UInt8 := dkwX0_fitting_2 ++ dktX0_fitting_3
def dkwX0_fitting_1 : List UInt8 := [180, 0, 111, 180, 0, 221, 7, 27, 104, 3, 96, 29, 145, 84, 42, 42, 180, 0, 111, 182, 0, 224, 3]
abbrev dktX0_fitting_1 : List UInt8 := dkwX0_fitting_1 ++ dktX0_fitting_2
def dkwX0_fitting_0 : List UInt8 := [3, 61, 3, 62, 29, 7, 162, 0, 174, 4, 54, 4, 42, 180, 0, 111, 42, 180, 0, 107, 182, 0, 158, 42]
abbrev dktX0_fitting_0 : List UInt8 := dkwX0_fitting_0 ++ dktX0_fitting_1
theorem dksX0_fitting_0 : cX0_fitting.data.toList.drop 0 = dktX0_fitting_0 := by decide +kernel
theorem dksX0_fitting_1 : cX0_fitting.data.toList.drop 24 = dktX0_fitting_1 := dk_seg dksX0_fitting_0 24 rfl rfl
theorem dksX0_fitting_2 : cX0_fitting.data.toList.drop 47 = dktX0_fitting_2 := dk_seg dksX0_fitting_1 23 rfl rfl
theorem dksX0_fitting_3 : cX0_fitting.data.toList.drop 71 = dktX0_fitting_3 := dk_seg dksX0_fitting_2 24 rfl rfl
theorem dksX0_fitting_4 : cX0_fitting.data.toList.drop 93 = dktX0_fitting_4 := dk_seg dksX0_fitting_3 22 rfl rfl
theorem dksX0_fitting_5 : cX0_fitting.data.toList.drop 117 = dktX0_fitting_5 := dk_seg dksX0_fitting_4 24 rfl rfl
theorem dksX0_fitting_6 : cX0_fitting.data.toList.drop 141 = dktX0_fitting_6 := dk_seg dksX0_fitting_5 24 rfl rfl
theorem dksX0_fitting_7 : cX0_fitting.data.toList.drop 165 = dktX0_fitting_7 := dk_seg dksX0_fitting_6 24 rfl rfl
theorem dX0_fitting_0 : decode cX0_fitting 0 = .ok (.iconst 0, 1) := dk_3 (dk_at dksX0_fitting_0 0 rfl rfl)
theorem dX0_fitting_1 : decode cX0_fitting 1 = .ok (.istore_n 2, 1) := dk_61 (dk_at dksX0_fitting_0 1 rfl rfl)
theorem dX0_fitting_2 : decode cX0_fitting 2 = .ok (.iconst 0, 1) := dk_3 (dk_at dksX0_fitting_0 2 rfl rfl)
theorem dX0_fitting_3 : decode cX0_fitting 3 = .ok (.istore_n 3, 1) := dk_62 (dk_at dksX0_fitting_0 3 rfl rfl)
theorem dX0_fitting_4 : decode cX0_fitting 4 = .ok (.iload_n 3, 1) := dk_29 (dk_at dksX0_fitting_0 4 rfl rfl)
theorem dX0_fitting_5 : decode cX0_fitting 5 = .ok (.iconst 4, 1) := dk_7 (dk_at dksX0_fitting_0 5 rfl rfl)
theorem dX0_fitting_6 : decode cX0_fitting 6 = .ok (.if_icmp .ge 174, 3) := dk_162 0 174 (dk_at dksX0_fitting_0 6 rfl rfl)
theorem dX0_fitting_9 : decode cX0_fitting 9 = .ok (.iconst 1, 1) := dk_4 (dk_at dksX0_fitting_0 9 rfl rfl)
theorem dX0_fitting_10 : decode cX0_fitting 10 = .ok (.istore 4, 2) := dk_54 4 (dk_at dksX0_fitting_0 10 rfl rfl)
theorem dX0_fitting_12 : decode cX0_fitting 12 = .ok (.aload_n 0, 1) := dk_42 (dk_at dksX0_fitting_0 12 rfl rfl)
theorem dX0_fitting_13 : decode cX0_fitting 13 = .ok (.getfield 111, 3) := dk_180 0 111 (dk_at dksX0_fitting_0 13 rfl rfl)
theorem dX0_fitting_16 : decode cX0_fitting 16 = .ok (.aload_n 0, 1) := dk_42 (dk_at dksX0_fitting_0 16 rfl rfl)
theorem dX0_fitting_17 : decode cX0_fitting 17 = .ok (.getfield 107, 3) := dk_180 0 107 (dk_at dksX0_fitting_0 17 rfl rfl)
theorem dX0_fitting_20 : decode cX0_fitting 20 = .ok (.invokevirtual 158, 3) := dk_182 0 158 (dk_at dksX0_fitting_0 20 rfl rfl)
theorem dX0_fitting_23 : decode cX0_fitting 23 = .ok (.aload_n 0, 1) := dk_42 (dk_at dksX0_fitting_0 23 rfl rfl)
theorem dX0_fitting_24 : decode cX0_fitting 24 = .ok (.getfield 111, 3) := dk_180 0 111 (dk_at dksX0_fitting_1 0 rfl rfl)
theorem dX0_fitting_27 : decode cX0_fitting 27 = .ok (.getfield 221, 3) := dk_180 0 221 (dk_at dksX0_fitting_1 3 rfl rfl)
theorem dX0_fitting_30 : decode cX0_fitting 30 = .ok (.iconst 4, 1) := dk_7 (dk_at dksX0_fitting_1 6 rfl rfl)
theorem dX0_fitting_31 : decode cX0_fitting 31 = .ok (.iload_n 1, 1) := dk_27 (dk_at dksX0_fitting_1 7 rfl rfl)
theorem dX0_fitting_32 : decode cX0_fitting 32 = .ok (.imul, 1) := dk_104 (dk_at dksX0_fitting_1 8 rfl rfl)
theorem dX0_fitting_33 : decode cX0_fitting 33 = .ok (.iconst 0, 1) := dk_3 (dk_at dksX0_fitting_1 9 rfl rfl)
theorem dX0_fitting_34 : decode cX0_fitting 34 = .ok (.iadd, 1) := dk_96 (dk_at dksX0_fitting_1 10 rfl rfl)
theorem dX0_fitting_35 : decode cX0_fitting 35 = .ok (.iload_n 3, 1) := dk_29 (dk_at dksX0_fitting_1 11 rfl rfl)
theorem dX0_fitting_36 : decode cX0_fitting 36 = .ok (.i2b, 1) := dk_145 (dk_at dksX0_fitting_1 12 rfl rfl)
theorem dX0_fitting_37 : decode cX0_fitting 37 = .ok (.bastore, 1) := dk_84 (dk_at dksX0_fitting_1 13 rfl rfl)
theorem dX0_fitting_38 : decode cX0_fitting 38 = .ok (.aload_n 0, 1) := dk_42 (dk_at dksX0_fitting_1 14 rfl rfl)
theorem dX0_fitting_39 : decode cX0_fitting 39 = .ok (.aload_n 0, 1) := dk_42 (dk_at dksX0_fitting_1 15 rfl rfl)
theorem dX0_fitting_40 : decode cX0_fitting 40 = .ok (.getfield 111, 3) := dk_180 0 111 (dk_at dksX0_fitting_1 16 rfl rfl)
theorem dX0_fitting_43 : decode cX0_fitting 43 = .ok (.invokevirtual 224, 3) := dk_182 0 224 (dk_at dksX0_fitting_1 19 rfl rfl)
theorem dX0_fitting_46 : decode cX0_fitting 46 = .ok (.iconst 0, 1) := dk_3 (dk_at dksX0_fitting_1 22 rfl rfl)
theorem dX0_fitting_47 : decode cX0_fitting 47 = .ok (.istore 5, 2) := dk_54 5 (dk_at dksX0_fitting_2 0 rfl rfl)
theorem dX0_fitting_49 : decode cX0_fitting 49 = .ok (.iload 5, 2) := dk_21 5 (dk_at dksX0_fitting_2 2 rfl rfl)
theorem dX0_fitting_51 : decode cX0_fitting 51 = .ok (.bipush 120, 2) := dk_16 120 (dk_at dksX0_fitting_2 4 rfl rfl)
theorem dX0_fitting_53 : decode cX0_fitting 53 = .ok (.if_icmp .ge 31, 3) := dk_162 0 31 (dk_at dksX0_fitting_2 6 rfl rfl)
theorem dX0_fitting_56 : decode cX0_fitting 56 = .ok (.aload_n 0, 1) := dk_42 (dk_at dksX0_fitting_2 9 rfl rfl)
theorem dX0_fitting_57 : decode cX0_fitting 57 = .ok (.getfield 124, 3) := dk_180 0 124 (dk_at dksX0_fitting_2 10 rfl rfl)
theorem dX0_fitting_60 : decode cX0_fitting 60 = .ok (.iconst 4, 1) := dk_7 (dk_at dksX0_fitting_2 13 rfl rfl)
theorem dX0_fitting_61 : decode cX0_fitting 61 = .ok (.iload 5, 2) := dk_21 5 (dk_at dksX0_fitting_2 14 rfl rfl)
theorem dX0_fitting_63 : decode cX0_fitting 63 = .ok (.imul, 1) := dk_104 (dk_at dksX0_fitting_2 16 rfl rfl)
theorem dX0_fitting_64 : decode cX0_fitting 64 = .ok (.iload_n 3, 1) := dk_29 (dk_at dksX0_fitting_2 17 rfl rfl)
theorem dX0_fitting_65 : decode cX0_fitting 65 = .ok (.iadd, 1) := dk_96 (dk_at dksX0_fitting_2 18 rfl rfl)
theorem dX0_fitting_66 : decode cX0_fitting 66 = .ok (.aload_n 0, 1) := dk_42 (dk_at dksX0_fitting_2 19 rfl rfl)
theorem dX0_fitting_67 : decode cX0_fitting 67 = .ok (.getfield 87, 3) := dk_180 0 87 (dk_at dksX0_fitting_2 20 rfl rfl)
theorem dX0_fitting_70 : decode cX0_fitting 70 = .ok (.iconst 4, 1) := dk_7 (dk_at dksX0_fitting_2 23 rfl rfl)
theorem dX0_fitting_71 : decode cX0_fitting 71 = .ok (.iload 5, 2) := dk_21 5 (dk_at dksX0_fitting_3 0 rfl rfl)
theorem dX0_fitting_73 : decode cX0_fitting 73 = .ok (.imul, 1) := dk_104 (dk_at dksX0_fitting_3 2 rfl rfl)
theorem dX0_fitting_74 : decode cX0_fitting 74 = .ok (.iload_n 1, 1) := dk_27 (dk_at dksX0_fitting_3 3 rfl rfl)
theorem dX0_fitting_75 : decode cX0_fitting 75 = .ok (.iadd, 1) := dk_96 (dk_at dksX0_fitting_3 4 rfl rfl)
theorem dX0_fitting_76 : decode cX0_fitting 76 = .ok (.baload, 1) := dk_51 (dk_at dksX0_fitting_3 5 rfl rfl)
theorem dX0_fitting_77 : decode cX0_fitting 77 = .ok (.bastore, 1) := dk_84 (dk_at dksX0_fitting_3 6 rfl rfl)
theorem dX0_fitting_78 : decode cX0_fitting 78 = .ok (.iinc 5 1, 3) := dk_132 5 1 (dk_at dksX0_fitting_3 7 rfl rfl)
theorem dX0_fitting_81 : decode cX0_fitting 81 = .ok (.goto (-32), 3) := dk_167 255 224 (dk_at dksX0_fitting_3 10 rfl rfl)
theorem dX0_fitting_84 : decode cX0_fitting 84 = .ok (.iconst 0, 1) := dk_3 (dk_at dksX0_fitting_3 13 rfl rfl)
theorem dX0_fitting_85 : decode cX0_fitting 85 = .ok (.istore 5, 2) := dk_54 5 (dk_at dksX0_fitting_3 14 rfl rfl)
theorem dX0_fitting_87 : decode cX0_fitting 87 = .ok (.iload 5, 2) := dk_21 5 (dk_at dksX0_fitting_3 16 rfl rfl)
theorem dX0_fitting_89 : decode cX0_fitting 89 = .ok (.aload_n 0, 1) := dk_42 (dk_at dksX0_fitting_3 18 rfl rfl)
theorem dX0_fitting_90 : decode cX0_fitting 90 = .ok (.getfield 174, 3) := dk_180 0 174 (dk_at dksX0_fitting_3 19 rfl rfl)
theorem dX0_fitting_93 : decode cX0_fitting 93 = .ok (.if_icmp .ge 66, 3) := dk_162 0 66 (dk_at dksX0_fitting_4 0 rfl rfl)
theorem dX0_fitting_96 : decode cX0_fitting 96 = .ok (.iload 4, 2) := dk_21 4 (dk_at dksX0_fitting_4 3 rfl rfl)
theorem dX0_fitting_98 : decode cX0_fitting 98 = .ok (.aload_n 0, 1) := dk_42 (dk_at dksX0_fitting_4 5 rfl rfl)
theorem dX0_fitting_99 : decode cX0_fitting 99 = .ok (.getfield 118, 3) := dk_180 0 118 (dk_at dksX0_fitting_4 6 rfl rfl)
theorem dX0_fitting_102 : decode cX0_fitting 102 = .ok (.iconst 3, 1) := dk_6 (dk_at dksX0_fitting_4 9 rfl rfl)
theorem dX0_fitting_103 : decode cX0_fitting 103 = .ok (.iload 5, 2) := dk_21 5 (dk_at dksX0_fitting_4 10 rfl rfl)
theorem dX0_fitting_105 : decode cX0_fitting 105 = .ok (.imul, 1) := dk_104 (dk_at dksX0_fitting_4 12 rfl rfl)
theorem dX0_fitting_106 : decode cX0_fitting 106 = .ok (.baload, 1) := dk_51 (dk_at dksX0_fitting_4 13 rfl rfl)
theorem dX0_fitting_107 : decode cX0_fitting 107 = .ok (.iload_n 1, 1) := dk_27 (dk_at dksX0_fitting_4 14 rfl rfl)
theorem dX0_fitting_108 : decode cX0_fitting 108 = .ok (.if_icmp .ne 37, 3) := dk_160 0 37 (dk_at dksX0_fitting_4 15 rfl rfl)
theorem dX0_fitting_111 : decode cX0_fitting 111 = .ok (.aload_n 0, 1) := dk_42 (dk_at dksX0_fitting_4 18 rfl rfl)
theorem dX0_fitting_112 : decode cX0_fitting 112 = .ok (.getfield 87, 3) := dk_180 0 87 (dk_at dksX0_fitting_4 19 rfl rfl)
theorem dX0_fitting_115 : decode cX0_fitting 115 = .ok (.iconst 4, 1) := dk_7 (dk_at dksX0_fitting_4 22 rfl rfl)
theorem dX0_fitting_116 : decode cX0_fitting 116 = .ok (.aload_n 0, 1) := dk_42 (dk_at dksX0_fitting_4 23 rfl rfl)
theorem dX0_fitting_117 : decode cX0_fitting 117 = .ok (.getfield 118, 3) := dk_180 0 118 (dk_at dksX0_fitting_5 0 rfl rfl)
theorem dX0_fitting_120 : decode cX0_fitting 120 = .ok (.iconst 3, 1) := dk_6 (dk_at dksX0_fitting_5 3 rfl rfl)
theorem dX0_fitting_121 : decode cX0_fitting 121 = .ok (.iload 5, 2) := dk_21 5 (dk_at dksX0_fitting_5 4 rfl rfl)
theorem dX0_fitting_123 : decode cX0_fitting 123 = .ok (.imul, 1) := dk_104 (dk_at dksX0_fitting_5 6 rfl rfl)
theorem dX0_fitting_124 : decode cX0_fitting 124 = .ok (.iconst 1, 1) := dk_4 (dk_at dksX0_fitting_5 7 rfl rfl)
theorem dX0_fitting_125 : decode cX0_fitting 125 = .ok (.iadd, 1) := dk_96 (dk_at dksX0_fitting_5 8 rfl rfl)
theorem dX0_fitting_126 : decode cX0_fitting 126 = .ok (.baload, 1) := dk_51 (dk_at dksX0_fitting_5 9 rfl rfl)
theorem dX0_fitting_127 : decode cX0_fitting 127 = .ok (.imul, 1) := dk_104 (dk_at dksX0_fitting_5 10 rfl rfl)
theorem dX0_fitting_128 : decode cX0_fitting 128 = .ok (.iload_n 1, 1) := dk_27 (dk_at dksX0_fitting_5 11 rfl rfl)
theorem dX0_fitting_129 : decode cX0_fitting 129 = .ok (.iadd, 1) := dk_96 (dk_at dksX0_fitting_5 12 rfl rfl)
theorem dX0_fitting_130 : decode cX0_fitting 130 = .ok (.baload, 1) := dk_51 (dk_at dksX0_fitting_5 13 rfl rfl)
theorem dX0_fitting_131 : decode cX0_fitting 131 = .ok (.aload_n 0, 1) := dk_42 (dk_at dksX0_fitting_5 14 rfl rfl)
theorem dX0_fitting_132 : decode cX0_fitting 132 = .ok (.getfield 118, 3) := dk_180 0 118 (dk_at dksX0_fitting_5 15 rfl rfl)
theorem dX0_fitting_135 : decode cX0_fitting 135 = .ok (.iconst 3, 1) := dk_6 (dk_at dksX0_fitting_5 18 rfl rfl)
theorem dX0_fitting_136 : decode cX0_fitting 136 = .ok (.iload 5, 2) := dk_21 5 (dk_at dksX0_fitting_5 19 rfl rfl)
theorem dX0_fitting_138 : decode cX0_fitting 138 = .ok (.imul, 1) := dk_104 (dk_at dksX0_fitting_5 21 rfl rfl)
theorem dX0_fitting_139 : decode cX0_fitting 139 = .ok (.iconst 2, 1) := dk_5 (dk_at dksX0_fitting_5 22 rfl rfl)
theorem dX0_fitting_140 : decode cX0_fitting 140 = .ok (.iadd, 1) := dk_96 (dk_at dksX0_fitting_5 23 rfl rfl)
theorem dX0_fitting_141 : decode cX0_fitting 141 = .ok (.baload, 1) := dk_51 (dk_at dksX0_fitting_6 0 rfl rfl)
theorem dX0_fitting_142 : decode cX0_fitting 142 = .ok (.if_icmp .ne 7, 3) := dk_160 0 7 (dk_at dksX0_fitting_6 1 rfl rfl)
theorem dX0_fitting_145 : decode cX0_fitting 145 = .ok (.iconst 1, 1) := dk_4 (dk_at dksX0_fitting_6 4 rfl rfl)
theorem dX0_fitting_146 : decode cX0_fitting 146 = .ok (.goto 4, 3) := dk_167 0 4 (dk_at dksX0_fitting_6 5 rfl rfl)
theorem dX0_fitting_149 : decode cX0_fitting 149 = .ok (.iconst 0, 1) := dk_3 (dk_at dksX0_fitting_6 8 rfl rfl)
theorem dX0_fitting_150 : decode cX0_fitting 150 = .ok (.iand, 1) := dk_126 (dk_at dksX0_fitting_6 9 rfl rfl)
theorem dX0_fitting_151 : decode cX0_fitting 151 = .ok (.istore 4, 2) := dk_54 4 (dk_at dksX0_fitting_6 10 rfl rfl)
theorem dX0_fitting_153 : decode cX0_fitting 153 = .ok (.iinc 5 1, 3) := dk_132 5 1 (dk_at dksX0_fitting_6 12 rfl rfl)
theorem dX0_fitting_156 : decode cX0_fitting 156 = .ok (.goto (-69), 3) := dk_167 255 187 (dk_at dksX0_fitting_6 15 rfl rfl)
theorem dX0_fitting_159 : decode cX0_fitting 159 = .ok (.iload_n 2, 1) := dk_28 (dk_at dksX0_fitting_6 18 rfl rfl)
theorem dX0_fitting_160 : decode cX0_fitting 160 = .ok (.iload 4, 2) := dk_21 4 (dk_at dksX0_fitting_6 19 rfl rfl)
theorem dX0_fitting_162 : decode cX0_fitting 162 = .ok (.ifCond .eq 9, 3) := dk_153 0 9 (dk_at dksX0_fitting_6 21 rfl rfl)
theorem dX0_fitting_165 : decode cX0_fitting 165 = .ok (.iconst 1, 1) := dk_4 (dk_at dksX0_fitting_7 0 rfl rfl)
theorem dX0_fitting_166 : decode cX0_fitting 166 = .ok (.iload_n 3, 1) := dk_29 (dk_at dksX0_fitting_7 1 rfl rfl)
theorem dX0_fitting_167 : decode cX0_fitting 167 = .ok (.ishl, 1) := dk_120 (dk_at dksX0_fitting_7 2 rfl rfl)
theorem dX0_fitting_168 : decode cX0_fitting 168 = .ok (.goto 4, 3) := dk_167 0 4 (dk_at dksX0_fitting_7 3 rfl rfl)
theorem dX0_fitting_171 : decode cX0_fitting 171 = .ok (.iconst 0, 1) := dk_3 (dk_at dksX0_fitting_7 6 rfl rfl)
theorem dX0_fitting_172 : decode cX0_fitting 172 = .ok (.ior, 1) := dk_128 (dk_at dksX0_fitting_7 7 rfl rfl)
theorem dX0_fitting_173 : decode cX0_fitting 173 = .ok (.istore_n 2, 1) := dk_61 (dk_at dksX0_fitting_7 8 rfl rfl)
theorem dX0_fitting_174 : decode cX0_fitting 174 = .ok (.iinc 3 1, 3) := dk_132 3 1 (dk_at dksX0_fitting_7 9 rfl rfl)
theorem dX0_fitting_177 : decode cX0_fitting 177 = .ok (.goto (-173), 3) := dk_167 255 83 (dk_at dksX0_fitting_7 12 rfl rfl)
theorem dX0_fitting_180 : decode cX0_fitting 180 = .ok (.iload_n 2, 1) := dk_28 (dk_at dksX0_fitting_7 15 rfl rfl)
theorem dX0_fitting_181 : decode cX0_fitting 181 = .ok (.ireturn, 1) := dk_172 (dk_at dksX0_fitting_7 16 rfl rfl)
def dkwX0_look_4 : List UInt8 := [167, 0, 14, 28, 154, 0, 8, 21, 5, 167, 0, 5, 21, 4, 172]
abbrev dktX0_look_4 : List UInt8 := dkwX0_look_4 ++ []
def dkwX0_look_3 : List UInt8 := [21, 7, 184, 1, 5, 54, 4, 132, 6, 1, 167, 255, 212, 21, 5, 16, 252, 160, 0, 8, 16, 252]
abbrev dktX0_look_3 : List UInt8 := dkwX0_look_3 ++ dktX0_look_4
def dkwX0_look_2 : List UInt8 := [182, 1, 32, 54, 7, 21, 7, 21, 4, 162, 0, 8, 21, 6, 167, 0, 5, 21, 5, 54, 5, 21, 4]
abbrev dktX0_look_2 : List UInt8 := dkwX0_look_2 ++ dktX0_look_3
def dkwX0_look_1 : List UInt8 := [184, 0, 238, 54, 4, 16, 252, 54, 5, 3, 54, 6, 21, 6, 16, 120, 162, 0, 43, 42, 29, 21, 6]
abbrev dktX0_look_1 : List UInt8 := dkwX0_look_1 ++ dktX0_look_2
def dkwX0_look_0 : List UInt8 := [42, 27, 182, 0, 205, 153, 0, 10, 28, 184, 0, 202, 154, 0, 5, 2, 172, 42, 27, 182, 1, 29, 62, 29]
abbrev dktX0_look_0 : List UInt8 := dkwX0_look_0 ++ dktX0_look_1
theorem dksX0_look_0 : cX0_look.data.toList.drop 0 = dktX0_look_0 := by decide +kernel
theorem dksX0_look_1 : cX0_look.data.toList.drop 24 = dktX0_look_1 := dk_seg dksX0_look_0 24 rfl rfl
theorem dksX0_look_2 : cX0_look.data.toList.drop 47 = dktX0_look_2 := dk_seg dksX0_look_1 23 rfl rfl
theorem dksX0_look_3 : cX0_look.data.toList.drop 70 = dktX0_look_3 := dk_seg dksX0_look_2 23 rfl rfl
theorem dksX0_look_4 : cX0_look.data.toList.drop 92 = dktX0_look_4 := dk_seg dksX0_look_3 22 rfl rfl
theorem dX0_look_0 : decode cX0_look 0 = .ok (.aload_n 0, 1) := dk_42 (dk_at dksX0_look_0 0 rfl rfl)
theorem dX0_look_1 : decode cX0_look 1 = .ok (.iload_n 1, 1) := dk_27 (dk_at dksX0_look_0 1 rfl rfl)
theorem dX0_look_2 : decode cX0_look 2 = .ok (.invokevirtual 205, 3) := dk_182 0 205 (dk_at dksX0_look_0 2 rfl rfl)
theorem dX0_look_5 : decode cX0_look 5 = .ok (.ifCond .eq 10, 3) := dk_153 0 10 (dk_at dksX0_look_0 5 rfl rfl)
theorem dX0_look_8 : decode cX0_look 8 = .ok (.iload_n 2, 1) := dk_28 (dk_at dksX0_look_0 8 rfl rfl)
theorem dX0_look_9 : decode cX0_look 9 = .ok (.invokestatic 202, 3) := dk_184 0 202 (dk_at dksX0_look_0 9 rfl rfl)
theorem dX0_look_12 : decode cX0_look 12 = .ok (.ifCond .ne 5, 3) := dk_154 0 5 (dk_at dksX0_look_0 12 rfl rfl)
theorem dX0_look_15 : decode cX0_look 15 = .ok (.iconst (-1), 1) := dk_2 (dk_at dksX0_look_0 15 rfl rfl)
theorem dX0_look_16 : decode cX0_look 16 = .ok (.ireturn, 1) := dk_172 (dk_at dksX0_look_0 16 rfl rfl)
theorem dX0_look_17 : decode cX0_look 17 = .ok (.aload_n 0, 1) := dk_42 (dk_at dksX0_look_0 17 rfl rfl)
theorem dX0_look_18 : decode cX0_look 18 = .ok (.iload_n 1, 1) := dk_27 (dk_at dksX0_look_0 18 rfl rfl)
theorem dX0_look_19 : decode cX0_look 19 = .ok (.invokevirtual 285, 3) := dk_182 1 29 (dk_at dksX0_look_0 19 rfl rfl)
theorem dX0_look_22 : decode cX0_look 22 = .ok (.istore_n 3, 1) := dk_62 (dk_at dksX0_look_0 22 rfl rfl)
theorem dX0_look_23 : decode cX0_look 23 = .ok (.iload_n 3, 1) := dk_29 (dk_at dksX0_look_0 23 rfl rfl)
theorem dX0_look_24 : decode cX0_look 24 = .ok (.invokestatic 238, 3) := dk_184 0 238 (dk_at dksX0_look_1 0 rfl rfl)
theorem dX0_look_27 : decode cX0_look 27 = .ok (.istore 4, 2) := dk_54 4 (dk_at dksX0_look_1 3 rfl rfl)
theorem dX0_look_29 : decode cX0_look 29 = .ok (.bipush (-4), 2) := dk_16 252 (dk_at dksX0_look_1 5 rfl rfl)
theorem dX0_look_31 : decode cX0_look 31 = .ok (.istore 5, 2) := dk_54 5 (dk_at dksX0_look_1 7 rfl rfl)
theorem dX0_look_33 : decode cX0_look 33 = .ok (.iconst 0, 1) := dk_3 (dk_at dksX0_look_1 9 rfl rfl)
theorem dX0_look_34 : decode cX0_look 34 = .ok (.istore 6, 2) := dk_54 6 (dk_at dksX0_look_1 10 rfl rfl)
theorem dX0_look_36 : decode cX0_look 36 = .ok (.iload 6, 2) := dk_21 6 (dk_at dksX0_look_1 12 rfl rfl)
theorem dX0_look_38 : decode cX0_look 38 = .ok (.bipush 120, 2) := dk_16 120 (dk_at dksX0_look_1 14 rfl rfl)
theorem dX0_look_40 : decode cX0_look 40 = .ok (.if_icmp .ge 43, 3) := dk_162 0 43 (dk_at dksX0_look_1 16 rfl rfl)
theorem dX0_look_43 : decode cX0_look 43 = .ok (.aload_n 0, 1) := dk_42 (dk_at dksX0_look_1 19 rfl rfl)
theorem dX0_look_44 : decode cX0_look 44 = .ok (.iload_n 3, 1) := dk_29 (dk_at dksX0_look_1 20 rfl rfl)
theorem dX0_look_45 : decode cX0_look 45 = .ok (.iload 6, 2) := dk_21 6 (dk_at dksX0_look_1 21 rfl rfl)
theorem dX0_look_47 : decode cX0_look 47 = .ok (.invokevirtual 288, 3) := dk_182 1 32 (dk_at dksX0_look_2 0 rfl rfl)
theorem dX0_look_50 : decode cX0_look 50 = .ok (.istore 7, 2) := dk_54 7 (dk_at dksX0_look_2 3 rfl rfl)
theorem dX0_look_52 : decode cX0_look 52 = .ok (.iload 7, 2) := dk_21 7 (dk_at dksX0_look_2 5 rfl rfl)
theorem dX0_look_54 : decode cX0_look 54 = .ok (.iload 4, 2) := dk_21 4 (dk_at dksX0_look_2 7 rfl rfl)
theorem dX0_look_56 : decode cX0_look 56 = .ok (.if_icmp .ge 8, 3) := dk_162 0 8 (dk_at dksX0_look_2 9 rfl rfl)
theorem dX0_look_59 : decode cX0_look 59 = .ok (.iload 6, 2) := dk_21 6 (dk_at dksX0_look_2 12 rfl rfl)
theorem dX0_look_61 : decode cX0_look 61 = .ok (.goto 5, 3) := dk_167 0 5 (dk_at dksX0_look_2 14 rfl rfl)
theorem dX0_look_64 : decode cX0_look 64 = .ok (.iload 5, 2) := dk_21 5 (dk_at dksX0_look_2 17 rfl rfl)
theorem dX0_look_66 : decode cX0_look 66 = .ok (.istore 5, 2) := dk_54 5 (dk_at dksX0_look_2 19 rfl rfl)
theorem dX0_look_68 : decode cX0_look 68 = .ok (.iload 4, 2) := dk_21 4 (dk_at dksX0_look_2 21 rfl rfl)
theorem dX0_look_70 : decode cX0_look 70 = .ok (.iload 7, 2) := dk_21 7 (dk_at dksX0_look_3 0 rfl rfl)
theorem dX0_look_72 : decode cX0_look 72 = .ok (.invokestatic 261, 3) := dk_184 1 5 (dk_at dksX0_look_3 2 rfl rfl)
theorem dX0_look_75 : decode cX0_look 75 = .ok (.istore 4, 2) := dk_54 4 (dk_at dksX0_look_3 5 rfl rfl)
theorem dX0_look_77 : decode cX0_look 77 = .ok (.iinc 6 1, 3) := dk_132 6 1 (dk_at dksX0_look_3 7 rfl rfl)
theorem dX0_look_80 : decode cX0_look 80 = .ok (.goto (-44), 3) := dk_167 255 212 (dk_at dksX0_look_3 10 rfl rfl)
theorem dX0_look_83 : decode cX0_look 83 = .ok (.iload 5, 2) := dk_21 5 (dk_at dksX0_look_3 13 rfl rfl)
theorem dX0_look_85 : decode cX0_look 85 = .ok (.bipush (-4), 2) := dk_16 252 (dk_at dksX0_look_3 15 rfl rfl)
theorem dX0_look_87 : decode cX0_look 87 = .ok (.if_icmp .ne 8, 3) := dk_160 0 8 (dk_at dksX0_look_3 17 rfl rfl)
theorem dX0_look_90 : decode cX0_look 90 = .ok (.bipush (-4), 2) := dk_16 252 (dk_at dksX0_look_3 20 rfl rfl)
theorem dX0_look_92 : decode cX0_look 92 = .ok (.goto 14, 3) := dk_167 0 14 (dk_at dksX0_look_4 0 rfl rfl)
theorem dX0_look_95 : decode cX0_look 95 = .ok (.iload_n 2, 1) := dk_28 (dk_at dksX0_look_4 3 rfl rfl)
theorem dX0_look_96 : decode cX0_look 96 = .ok (.ifCond .ne 8, 3) := dk_154 0 8 (dk_at dksX0_look_4 4 rfl rfl)
theorem dX0_look_99 : decode cX0_look 99 = .ok (.iload 5, 2) := dk_21 5 (dk_at dksX0_look_4 7 rfl rfl)
theorem dX0_look_101 : decode cX0_look 101 = .ok (.goto 5, 3) := dk_167 0 5 (dk_at dksX0_look_4 9 rfl rfl)
theorem dX0_look_104 : decode cX0_look 104 = .ok (.iload 4, 2) := dk_21 4 (dk_at dksX0_look_4 12 rfl rfl)
theorem dX0_look_106 : decode cX0_look 106 = .ok (.ireturn, 1) := dk_172 (dk_at dksX0_look_4 14 rfl rfl)
def dkwX0_worstBehind_4 : List UInt8 := [167, 255, 169, 29, 172]
abbrev dktX0_worstBehind_4 : List UInt8 := dkwX0_worstBehind_4 ++ []
def dkwX0_worstBehind_3 : List UInt8 := [167, 0, 4, 3, 96, 54, 5, 132, 6, 1, 167, 255, 194, 29, 21, 5, 184, 1, 0, 62, 132, 4, 1]
abbrev dktX0_worstBehind_3 : List UInt8 := dkwX0_worstBehind_3 ++ dktX0_worstBehind_4
def dkwX0_worstBehind_2 : List UInt8 := [7, 28, 104, 21, 4, 96, 51, 42, 180, 0, 124, 7, 28, 104, 21, 6, 96, 51, 160, 0, 7, 4]
abbrev dktX0_worstBehind_2 : List UInt8 := dkwX0_worstBehind_2 ++ dktX0_worstBehind_3
def dkwX0_worstBehind_1 : List UInt8 := [21, 5, 27, 21, 4, 184, 0, 11, 153, 0, 41, 27, 21, 6, 184, 0, 11, 153, 0, 32, 42, 180, 0, 124]
abbrev dktX0_worstBehind_1 : List UInt8 := dkwX0_worstBehind_1 ++ dktX0_worstBehind_2
def dkwX0_worstBehind_0 : List UInt8 := [3, 62, 3, 54, 4, 21, 4, 7, 162, 0, 87, 3, 54, 5, 3, 54, 6, 21, 6, 7, 162, 0, 62]
abbrev dktX0_worstBehind_0 : List UInt8 := dkwX0_worstBehind_0 ++ dktX0_worstBehind_1
theorem dksX0_worstBehind_0 : cX0_worstBehind.data.toList.drop 0 = dktX0_worstBehind_0 := by decide +kernel
theorem dksX0_worstBehind_1 : cX0_worstBehind.data.toList.drop 23 = dktX0_worstBehind_1 := dk_seg dksX0_worstBehind_0 23 rfl rfl
theorem dksX0_worstBehind_2 : cX0_worstBehind.data.toList.drop 47 = dktX0_worstBehind_2 := dk_seg dksX0_worstBehind_1 24 rfl rfl
theorem dksX0_worstBehind_3 : cX0_worstBehind.data.toList.drop 69 = dktX0_worstBehind_3 := dk_seg dksX0_worstBehind_2 22 rfl rfl
theorem dksX0_worstBehind_4 : cX0_worstBehind.data.toList.drop 92 = dktX0_worstBehind_4 := dk_seg dksX0_worstBehind_3 23 rfl rfl
theorem dX0_worstBehind_0 : decode cX0_worstBehind 0 = .ok (.iconst 0, 1) := dk_3 (dk_at dksX0_worstBehind_0 0 rfl rfl)
theorem dX0_worstBehind_1 : decode cX0_worstBehind 1 = .ok (.istore_n 3, 1) := dk_62 (dk_at dksX0_worstBehind_0 1 rfl rfl)
theorem dX0_worstBehind_2 : decode cX0_worstBehind 2 = .ok (.iconst 0, 1) := dk_3 (dk_at dksX0_worstBehind_0 2 rfl rfl)
theorem dX0_worstBehind_3 : decode cX0_worstBehind 3 = .ok (.istore 4, 2) := dk_54 4 (dk_at dksX0_worstBehind_0 3 rfl rfl)
theorem dX0_worstBehind_5 : decode cX0_worstBehind 5 = .ok (.iload 4, 2) := dk_21 4 (dk_at dksX0_worstBehind_0 5 rfl rfl)
theorem dX0_worstBehind_7 : decode cX0_worstBehind 7 = .ok (.iconst 4, 1) := dk_7 (dk_at dksX0_worstBehind_0 7 rfl rfl)
theorem dX0_worstBehind_8 : decode cX0_worstBehind 8 = .ok (.if_icmp .ge 87, 3) := dk_162 0 87 (dk_at dksX0_worstBehind_0 8 rfl rfl)
theorem dX0_worstBehind_11 : decode cX0_worstBehind 11 = .ok (.iconst 0, 1) := dk_3 (dk_at dksX0_worstBehind_0 11 rfl rfl)
theorem dX0_worstBehind_12 : decode cX0_worstBehind 12 = .ok (.istore 5, 2) := dk_54 5 (dk_at dksX0_worstBehind_0 12 rfl rfl)
theorem dX0_worstBehind_14 : decode cX0_worstBehind 14 = .ok (.iconst 0, 1) := dk_3 (dk_at dksX0_worstBehind_0 14 rfl rfl)
theorem dX0_worstBehind_15 : decode cX0_worstBehind 15 = .ok (.istore 6, 2) := dk_54 6 (dk_at dksX0_worstBehind_0 15 rfl rfl)
theorem dX0_worstBehind_17 : decode cX0_worstBehind 17 = .ok (.iload 6, 2) := dk_21 6 (dk_at dksX0_worstBehind_0 17 rfl rfl)
theorem dX0_worstBehind_19 : decode cX0_worstBehind 19 = .ok (.iconst 4, 1) := dk_7 (dk_at dksX0_worstBehind_0 19 rfl rfl)
theorem dX0_worstBehind_20 : decode cX0_worstBehind 20 = .ok (.if_icmp .ge 62, 3) := dk_162 0 62 (dk_at dksX0_worstBehind_0 20 rfl rfl)
theorem dX0_worstBehind_23 : decode cX0_worstBehind 23 = .ok (.iload 5, 2) := dk_21 5 (dk_at dksX0_worstBehind_1 0 rfl rfl)
theorem dX0_worstBehind_25 : decode cX0_worstBehind 25 = .ok (.iload_n 1, 1) := dk_27 (dk_at dksX0_worstBehind_1 2 rfl rfl)
theorem dX0_worstBehind_26 : decode cX0_worstBehind 26 = .ok (.iload 4, 2) := dk_21 4 (dk_at dksX0_worstBehind_1 3 rfl rfl)
theorem dX0_worstBehind_28 : decode cX0_worstBehind 28 = .ok (.invokestatic 11, 3) := dk_184 0 11 (dk_at dksX0_worstBehind_1 5 rfl rfl)
theorem dX0_worstBehind_31 : decode cX0_worstBehind 31 = .ok (.ifCond .eq 41, 3) := dk_153 0 41 (dk_at dksX0_worstBehind_1 8 rfl rfl)
theorem dX0_worstBehind_34 : decode cX0_worstBehind 34 = .ok (.iload_n 1, 1) := dk_27 (dk_at dksX0_worstBehind_1 11 rfl rfl)
theorem dX0_worstBehind_35 : decode cX0_worstBehind 35 = .ok (.iload 6, 2) := dk_21 6 (dk_at dksX0_worstBehind_1 12 rfl rfl)
theorem dX0_worstBehind_37 : decode cX0_worstBehind 37 = .ok (.invokestatic 11, 3) := dk_184 0 11 (dk_at dksX0_worstBehind_1 14 rfl rfl)
theorem dX0_worstBehind_40 : decode cX0_worstBehind 40 = .ok (.ifCond .eq 32, 3) := dk_153 0 32 (dk_at dksX0_worstBehind_1 17 rfl rfl)
theorem dX0_worstBehind_43 : decode cX0_worstBehind 43 = .ok (.aload_n 0, 1) := dk_42 (dk_at dksX0_worstBehind_1 20 rfl rfl)
theorem dX0_worstBehind_44 : decode cX0_worstBehind 44 = .ok (.getfield 124, 3) := dk_180 0 124 (dk_at dksX0_worstBehind_1 21 rfl rfl)
theorem dX0_worstBehind_47 : decode cX0_worstBehind 47 = .ok (.iconst 4, 1) := dk_7 (dk_at dksX0_worstBehind_2 0 rfl rfl)
theorem dX0_worstBehind_48 : decode cX0_worstBehind 48 = .ok (.iload_n 2, 1) := dk_28 (dk_at dksX0_worstBehind_2 1 rfl rfl)
theorem dX0_worstBehind_49 : decode cX0_worstBehind 49 = .ok (.imul, 1) := dk_104 (dk_at dksX0_worstBehind_2 2 rfl rfl)
theorem dX0_worstBehind_50 : decode cX0_worstBehind 50 = .ok (.iload 4, 2) := dk_21 4 (dk_at dksX0_worstBehind_2 3 rfl rfl)
theorem dX0_worstBehind_52 : decode cX0_worstBehind 52 = .ok (.iadd, 1) := dk_96 (dk_at dksX0_worstBehind_2 5 rfl rfl)
theorem dX0_worstBehind_53 : decode cX0_worstBehind 53 = .ok (.baload, 1) := dk_51 (dk_at dksX0_worstBehind_2 6 rfl rfl)
theorem dX0_worstBehind_54 : decode cX0_worstBehind 54 = .ok (.aload_n 0, 1) := dk_42 (dk_at dksX0_worstBehind_2 7 rfl rfl)
theorem dX0_worstBehind_55 : decode cX0_worstBehind 55 = .ok (.getfield 124, 3) := dk_180 0 124 (dk_at dksX0_worstBehind_2 8 rfl rfl)
theorem dX0_worstBehind_58 : decode cX0_worstBehind 58 = .ok (.iconst 4, 1) := dk_7 (dk_at dksX0_worstBehind_2 11 rfl rfl)
theorem dX0_worstBehind_59 : decode cX0_worstBehind 59 = .ok (.iload_n 2, 1) := dk_28 (dk_at dksX0_worstBehind_2 12 rfl rfl)
theorem dX0_worstBehind_60 : decode cX0_worstBehind 60 = .ok (.imul, 1) := dk_104 (dk_at dksX0_worstBehind_2 13 rfl rfl)
theorem dX0_worstBehind_61 : decode cX0_worstBehind 61 = .ok (.iload 6, 2) := dk_21 6 (dk_at dksX0_worstBehind_2 14 rfl rfl)
theorem dX0_worstBehind_63 : decode cX0_worstBehind 63 = .ok (.iadd, 1) := dk_96 (dk_at dksX0_worstBehind_2 16 rfl rfl)
theorem dX0_worstBehind_64 : decode cX0_worstBehind 64 = .ok (.baload, 1) := dk_51 (dk_at dksX0_worstBehind_2 17 rfl rfl)
theorem dX0_worstBehind_65 : decode cX0_worstBehind 65 = .ok (.if_icmp .ne 7, 3) := dk_160 0 7 (dk_at dksX0_worstBehind_2 18 rfl rfl)
theorem dX0_worstBehind_68 : decode cX0_worstBehind 68 = .ok (.iconst 1, 1) := dk_4 (dk_at dksX0_worstBehind_2 21 rfl rfl)
theorem dX0_worstBehind_69 : decode cX0_worstBehind 69 = .ok (.goto 4, 3) := dk_167 0 4 (dk_at dksX0_worstBehind_3 0 rfl rfl)
theorem dX0_worstBehind_72 : decode cX0_worstBehind 72 = .ok (.iconst 0, 1) := dk_3 (dk_at dksX0_worstBehind_3 3 rfl rfl)
theorem dX0_worstBehind_73 : decode cX0_worstBehind 73 = .ok (.iadd, 1) := dk_96 (dk_at dksX0_worstBehind_3 4 rfl rfl)
theorem dX0_worstBehind_74 : decode cX0_worstBehind 74 = .ok (.istore 5, 2) := dk_54 5 (dk_at dksX0_worstBehind_3 5 rfl rfl)
theorem dX0_worstBehind_76 : decode cX0_worstBehind 76 = .ok (.iinc 6 1, 3) := dk_132 6 1 (dk_at dksX0_worstBehind_3 7 rfl rfl)
theorem dX0_worstBehind_79 : decode cX0_worstBehind 79 = .ok (.goto (-62), 3) := dk_167 255 194 (dk_at dksX0_worstBehind_3 10 rfl rfl)
theorem dX0_worstBehind_82 : decode cX0_worstBehind 82 = .ok (.iload_n 3, 1) := dk_29 (dk_at dksX0_worstBehind_3 13 rfl rfl)
theorem dX0_worstBehind_83 : decode cX0_worstBehind 83 = .ok (.iload 5, 2) := dk_21 5 (dk_at dksX0_worstBehind_3 14 rfl rfl)
theorem dX0_worstBehind_85 : decode cX0_worstBehind 85 = .ok (.invokestatic 256, 3) := dk_184 1 0 (dk_at dksX0_worstBehind_3 16 rfl rfl)
theorem dX0_worstBehind_88 : decode cX0_worstBehind 88 = .ok (.istore_n 3, 1) := dk_62 (dk_at dksX0_worstBehind_3 19 rfl rfl)
theorem dX0_worstBehind_89 : decode cX0_worstBehind 89 = .ok (.iinc 4 1, 3) := dk_132 4 1 (dk_at dksX0_worstBehind_3 20 rfl rfl)
theorem dX0_worstBehind_92 : decode cX0_worstBehind 92 = .ok (.goto (-87), 3) := dk_167 255 169 (dk_at dksX0_worstBehind_4 0 rfl rfl)
theorem dX0_worstBehind_95 : decode cX0_worstBehind 95 = .ok (.iload_n 3, 1) := dk_29 (dk_at dksX0_worstBehind_4 3 rfl rfl)
theorem dX0_worstBehind_96 : decode cX0_worstBehind 96 = .ok (.ireturn, 1) := dk_172 (dk_at dksX0_worstBehind_4 4 rfl rfl)
def dkwX0_drift_8 : List UInt8 := [29, 154, 0, 8, 21, 6, 167, 0, 5, 21, 7, 172]
abbrev dktX0_drift_8 : List UInt8 := dkwX0_drift_8 ++ []
def dkwX0_drift_7 : List UInt8 := [167, 0, 4, 4, 96, 54, 6, 21, 7, 42, 25, 4, 182, 0, 230, 96, 54, 7, 132, 8, 1, 167, 255, 122]
abbrev dktX0_drift_7 : List UInt8 := dkwX0_drift_7 ++ dktX0_drift_8
def dkwX0_drift_6 : List UInt8 := [21, 9, 51, 84, 42, 25, 4, 182, 0, 224, 21, 6, 42, 180, 0, 41, 16, 252, 160, 0, 7, 3]
abbrev dktX0_drift_6 : List UInt8 := dkwX0_drift_6 ++ dktX0_drift_7
def dkwX0_drift_5 : List UInt8 := [25, 4, 21, 9, 21, 10, 182, 0, 215, 153, 0, 9, 21, 10, 145, 167, 0, 11, 25, 4, 180, 0, 67]
abbrev dktX0_drift_5 : List UInt8 := dkwX0_drift_5 ++ dktX0_drift_6
def dkwX0_drift_4 : List UInt8 := [54, 5, 21, 5, 16, 16, 124, 17, 127, 255, 126, 8, 112, 54, 10, 25, 4, 180, 0, 67, 21, 9, 42]
abbrev dktX0_drift_4 : List UInt8 := dkwX0_drift_4 ++ dktX0_drift_5
def dkwX0_drift_3 : List UInt8 := [124, 17, 127, 255, 126, 25, 4, 180, 0, 188, 112, 54, 9, 21, 5, 19, 1, 37, 104, 17, 48, 57, 96]
abbrev dktX0_drift_3 : List UInt8 := dkwX0_drift_3 ++ dktX0_drift_4
def dkwX0_drift_2 : List UInt8 := [54, 8, 21, 8, 28, 162, 0, 134, 21, 5, 19, 1, 37, 104, 17, 48, 57, 96, 54, 5, 21, 5, 16, 16]
abbrev dktX0_drift_2 : List UInt8 := dkwX0_drift_2 ++ dktX0_drift_3
def dkwX0_drift_1 : List UInt8 := [180, 0, 111, 58, 4, 25, 4, 42, 180, 0, 107, 182, 0, 158, 27, 54, 5, 3, 54, 6, 3, 54, 7, 3]
abbrev dktX0_drift_1 : List UInt8 := dkwX0_drift_1 ++ dktX0_drift_2
def dkwX0_drift_0 : List UInt8 := [28, 133, 10, 20, 1, 35, 184, 0, 136, 153, 0, 10, 29, 184, 0, 202, 154, 0, 5, 2, 172, 42]
abbrev dktX0_drift_0 : List UInt8 := dkwX0_drift_0 ++ dktX0_drift_1
theorem dksX0_drift_0 : cX0_drift.data.toList.drop 0 = dktX0_drift_0 := by decide +kernel
theorem dksX0_drift_1 : cX0_drift.data.toList.drop 22 = dktX0_drift_1 := dk_seg dksX0_drift_0 22 rfl rfl
theorem dksX0_drift_2 : cX0_drift.data.toList.drop 46 = dktX0_drift_2 := dk_seg dksX0_drift_1 24 rfl rfl
theorem dksX0_drift_3 : cX0_drift.data.toList.drop 70 = dktX0_drift_3 := dk_seg dksX0_drift_2 24 rfl rfl
theorem dksX0_drift_4 : cX0_drift.data.toList.drop 93 = dktX0_drift_4 := dk_seg dksX0_drift_3 23 rfl rfl
theorem dksX0_drift_5 : cX0_drift.data.toList.drop 116 = dktX0_drift_5 := dk_seg dksX0_drift_4 23 rfl rfl
theorem dksX0_drift_6 : cX0_drift.data.toList.drop 139 = dktX0_drift_6 := dk_seg dksX0_drift_5 23 rfl rfl
theorem dksX0_drift_7 : cX0_drift.data.toList.drop 161 = dktX0_drift_7 := dk_seg dksX0_drift_6 22 rfl rfl
theorem dksX0_drift_8 : cX0_drift.data.toList.drop 185 = dktX0_drift_8 := dk_seg dksX0_drift_7 24 rfl rfl
theorem dX0_drift_0 : decode cX0_drift 0 = .ok (.iload_n 2, 1) := dk_28 (dk_at dksX0_drift_0 0 rfl rfl)
theorem dX0_drift_1 : decode cX0_drift 1 = .ok (.i2l, 1) := dk_133 (dk_at dksX0_drift_0 1 rfl rfl)
theorem dX0_drift_2 : decode cX0_drift 2 = .ok (.lconst 1, 1) := dk_10 (dk_at dksX0_drift_0 2 rfl rfl)
theorem dX0_drift_3 : decode cX0_drift 3 = .ok (.ldc2_w 291, 3) := dk_20 1 35 (dk_at dksX0_drift_0 3 rfl rfl)
theorem dX0_drift_6 : decode cX0_drift 6 = .ok (.invokestatic 136, 3) := dk_184 0 136 (dk_at dksX0_drift_0 6 rfl rfl)
theorem dX0_drift_9 : decode cX0_drift 9 = .ok (.ifCond .eq 10, 3) := dk_153 0 10 (dk_at dksX0_drift_0 9 rfl rfl)
theorem dX0_drift_12 : decode cX0_drift 12 = .ok (.iload_n 3, 1) := dk_29 (dk_at dksX0_drift_0 12 rfl rfl)
theorem dX0_drift_13 : decode cX0_drift 13 = .ok (.invokestatic 202, 3) := dk_184 0 202 (dk_at dksX0_drift_0 13 rfl rfl)
theorem dX0_drift_16 : decode cX0_drift 16 = .ok (.ifCond .ne 5, 3) := dk_154 0 5 (dk_at dksX0_drift_0 16 rfl rfl)
theorem dX0_drift_19 : decode cX0_drift 19 = .ok (.iconst (-1), 1) := dk_2 (dk_at dksX0_drift_0 19 rfl rfl)
theorem dX0_drift_20 : decode cX0_drift 20 = .ok (.ireturn, 1) := dk_172 (dk_at dksX0_drift_0 20 rfl rfl)
theorem dX0_drift_21 : decode cX0_drift 21 = .ok (.aload_n 0, 1) := dk_42 (dk_at dksX0_drift_0 21 rfl rfl)
theorem dX0_drift_22 : decode cX0_drift 22 = .ok (.getfield 111, 3) := dk_180 0 111 (dk_at dksX0_drift_1 0 rfl rfl)
theorem dX0_drift_25 : decode cX0_drift 25 = .ok (.astore 4, 2) := dk_58 4 (dk_at dksX0_drift_1 3 rfl rfl)
theorem dX0_drift_27 : decode cX0_drift 27 = .ok (.aload 4, 2) := dk_25 4 (dk_at dksX0_drift_1 5 rfl rfl)
theorem dX0_drift_29 : decode cX0_drift 29 = .ok (.aload_n 0, 1) := dk_42 (dk_at dksX0_drift_1 7 rfl rfl)
theorem dX0_drift_30 : decode cX0_drift 30 = .ok (.getfield 107, 3) := dk_180 0 107 (dk_at dksX0_drift_1 8 rfl rfl)
theorem dX0_drift_33 : decode cX0_drift 33 = .ok (.invokevirtual 158, 3) := dk_182 0 158 (dk_at dksX0_drift_1 11 rfl rfl)
theorem dX0_drift_36 : decode cX0_drift 36 = .ok (.iload_n 1, 1) := dk_27 (dk_at dksX0_drift_1 14 rfl rfl)
theorem dX0_drift_37 : decode cX0_drift 37 = .ok (.istore 5, 2) := dk_54 5 (dk_at dksX0_drift_1 15 rfl rfl)
theorem dX0_drift_39 : decode cX0_drift 39 = .ok (.iconst 0, 1) := dk_3 (dk_at dksX0_drift_1 17 rfl rfl)
theorem dX0_drift_40 : decode cX0_drift 40 = .ok (.istore 6, 2) := dk_54 6 (dk_at dksX0_drift_1 18 rfl rfl)
theorem dX0_drift_42 : decode cX0_drift 42 = .ok (.iconst 0, 1) := dk_3 (dk_at dksX0_drift_1 20 rfl rfl)
theorem dX0_drift_43 : decode cX0_drift 43 = .ok (.istore 7, 2) := dk_54 7 (dk_at dksX0_drift_1 21 rfl rfl)
theorem dX0_drift_45 : decode cX0_drift 45 = .ok (.iconst 0, 1) := dk_3 (dk_at dksX0_drift_1 23 rfl rfl)
theorem dX0_drift_46 : decode cX0_drift 46 = .ok (.istore 8, 2) := dk_54 8 (dk_at dksX0_drift_2 0 rfl rfl)
theorem dX0_drift_48 : decode cX0_drift 48 = .ok (.iload 8, 2) := dk_21 8 (dk_at dksX0_drift_2 2 rfl rfl)
theorem dX0_drift_50 : decode cX0_drift 50 = .ok (.iload_n 2, 1) := dk_28 (dk_at dksX0_drift_2 4 rfl rfl)
theorem dX0_drift_51 : decode cX0_drift 51 = .ok (.if_icmp .ge 134, 3) := dk_162 0 134 (dk_at dksX0_drift_2 5 rfl rfl)
theorem dX0_drift_54 : decode cX0_drift 54 = .ok (.iload 5, 2) := dk_21 5 (dk_at dksX0_drift_2 8 rfl rfl)
theorem dX0_drift_56 : decode cX0_drift 56 = .ok (.ldc_w 293, 3) := dk_19 1 37 (dk_at dksX0_drift_2 10 rfl rfl)
theorem dX0_drift_59 : decode cX0_drift 59 = .ok (.imul, 1) := dk_104 (dk_at dksX0_drift_2 13 rfl rfl)
theorem dX0_drift_60 : decode cX0_drift 60 = .ok (.sipush 12345, 3) := dk_17 48 57 (dk_at dksX0_drift_2 14 rfl rfl)
theorem dX0_drift_63 : decode cX0_drift 63 = .ok (.iadd, 1) := dk_96 (dk_at dksX0_drift_2 17 rfl rfl)
theorem dX0_drift_64 : decode cX0_drift 64 = .ok (.istore 5, 2) := dk_54 5 (dk_at dksX0_drift_2 18 rfl rfl)
theorem dX0_drift_66 : decode cX0_drift 66 = .ok (.iload 5, 2) := dk_21 5 (dk_at dksX0_drift_2 20 rfl rfl)
theorem dX0_drift_68 : decode cX0_drift 68 = .ok (.bipush 16, 2) := dk_16 16 (dk_at dksX0_drift_2 22 rfl rfl)
theorem dX0_drift_70 : decode cX0_drift 70 = .ok (.iushr, 1) := dk_124 (dk_at dksX0_drift_3 0 rfl rfl)
theorem dX0_drift_71 : decode cX0_drift 71 = .ok (.sipush 32767, 3) := dk_17 127 255 (dk_at dksX0_drift_3 1 rfl rfl)
theorem dX0_drift_74 : decode cX0_drift 74 = .ok (.iand, 1) := dk_126 (dk_at dksX0_drift_3 4 rfl rfl)
theorem dX0_drift_75 : decode cX0_drift 75 = .ok (.aload 4, 2) := dk_25 4 (dk_at dksX0_drift_3 5 rfl rfl)
theorem dX0_drift_77 : decode cX0_drift 77 = .ok (.getfield 188, 3) := dk_180 0 188 (dk_at dksX0_drift_3 7 rfl rfl)
theorem dX0_drift_80 : decode cX0_drift 80 = .ok (.irem, 1) := dk_112 (dk_at dksX0_drift_3 10 rfl rfl)
theorem dX0_drift_81 : decode cX0_drift 81 = .ok (.istore 9, 2) := dk_54 9 (dk_at dksX0_drift_3 11 rfl rfl)
theorem dX0_drift_83 : decode cX0_drift 83 = .ok (.iload 5, 2) := dk_21 5 (dk_at dksX0_drift_3 13 rfl rfl)
theorem dX0_drift_85 : decode cX0_drift 85 = .ok (.ldc_w 293, 3) := dk_19 1 37 (dk_at dksX0_drift_3 15 rfl rfl)
theorem dX0_drift_88 : decode cX0_drift 88 = .ok (.imul, 1) := dk_104 (dk_at dksX0_drift_3 18 rfl rfl)
theorem dX0_drift_89 : decode cX0_drift 89 = .ok (.sipush 12345, 3) := dk_17 48 57 (dk_at dksX0_drift_3 19 rfl rfl)
theorem dX0_drift_92 : decode cX0_drift 92 = .ok (.iadd, 1) := dk_96 (dk_at dksX0_drift_3 22 rfl rfl)
theorem dX0_drift_93 : decode cX0_drift 93 = .ok (.istore 5, 2) := dk_54 5 (dk_at dksX0_drift_4 0 rfl rfl)
theorem dX0_drift_95 : decode cX0_drift 95 = .ok (.iload 5, 2) := dk_21 5 (dk_at dksX0_drift_4 2 rfl rfl)
theorem dX0_drift_97 : decode cX0_drift 97 = .ok (.bipush 16, 2) := dk_16 16 (dk_at dksX0_drift_4 4 rfl rfl)
theorem dX0_drift_99 : decode cX0_drift 99 = .ok (.iushr, 1) := dk_124 (dk_at dksX0_drift_4 6 rfl rfl)
theorem dX0_drift_100 : decode cX0_drift 100 = .ok (.sipush 32767, 3) := dk_17 127 255 (dk_at dksX0_drift_4 7 rfl rfl)
theorem dX0_drift_103 : decode cX0_drift 103 = .ok (.iand, 1) := dk_126 (dk_at dksX0_drift_4 10 rfl rfl)
theorem dX0_drift_104 : decode cX0_drift 104 = .ok (.iconst 5, 1) := dk_8 (dk_at dksX0_drift_4 11 rfl rfl)
theorem dX0_drift_105 : decode cX0_drift 105 = .ok (.irem, 1) := dk_112 (dk_at dksX0_drift_4 12 rfl rfl)
theorem dX0_drift_106 : decode cX0_drift 106 = .ok (.istore 10, 2) := dk_54 10 (dk_at dksX0_drift_4 13 rfl rfl)
theorem dX0_drift_108 : decode cX0_drift 108 = .ok (.aload 4, 2) := dk_25 4 (dk_at dksX0_drift_4 15 rfl rfl)
theorem dX0_drift_110 : decode cX0_drift 110 = .ok (.getfield 67, 3) := dk_180 0 67 (dk_at dksX0_drift_4 17 rfl rfl)
theorem dX0_drift_113 : decode cX0_drift 113 = .ok (.iload 9, 2) := dk_21 9 (dk_at dksX0_drift_4 20 rfl rfl)
theorem dX0_drift_115 : decode cX0_drift 115 = .ok (.aload_n 0, 1) := dk_42 (dk_at dksX0_drift_4 22 rfl rfl)
theorem dX0_drift_116 : decode cX0_drift 116 = .ok (.aload 4, 2) := dk_25 4 (dk_at dksX0_drift_5 0 rfl rfl)
theorem dX0_drift_118 : decode cX0_drift 118 = .ok (.iload 9, 2) := dk_21 9 (dk_at dksX0_drift_5 2 rfl rfl)
theorem dX0_drift_120 : decode cX0_drift 120 = .ok (.iload 10, 2) := dk_21 10 (dk_at dksX0_drift_5 4 rfl rfl)
theorem dX0_drift_122 : decode cX0_drift 122 = .ok (.invokevirtual 215, 3) := dk_182 0 215 (dk_at dksX0_drift_5 6 rfl rfl)
theorem dX0_drift_125 : decode cX0_drift 125 = .ok (.ifCond .eq 9, 3) := dk_153 0 9 (dk_at dksX0_drift_5 9 rfl rfl)
theorem dX0_drift_128 : decode cX0_drift 128 = .ok (.iload 10, 2) := dk_21 10 (dk_at dksX0_drift_5 12 rfl rfl)
theorem dX0_drift_130 : decode cX0_drift 130 = .ok (.i2b, 1) := dk_145 (dk_at dksX0_drift_5 14 rfl rfl)
theorem dX0_drift_131 : decode cX0_drift 131 = .ok (.goto 11, 3) := dk_167 0 11 (dk_at dksX0_drift_5 15 rfl rfl)
theorem dX0_drift_134 : decode cX0_drift 134 = .ok (.aload 4, 2) := dk_25 4 (dk_at dksX0_drift_5 18 rfl rfl)
theorem dX0_drift_136 : decode cX0_drift 136 = .ok (.getfield 67, 3) := dk_180 0 67 (dk_at dksX0_drift_5 20 rfl rfl)
theorem dX0_drift_139 : decode cX0_drift 139 = .ok (.iload 9, 2) := dk_21 9 (dk_at dksX0_drift_6 0 rfl rfl)
theorem dX0_drift_141 : decode cX0_drift 141 = .ok (.baload, 1) := dk_51 (dk_at dksX0_drift_6 2 rfl rfl)
theorem dX0_drift_142 : decode cX0_drift 142 = .ok (.bastore, 1) := dk_84 (dk_at dksX0_drift_6 3 rfl rfl)
theorem dX0_drift_143 : decode cX0_drift 143 = .ok (.aload_n 0, 1) := dk_42 (dk_at dksX0_drift_6 4 rfl rfl)
theorem dX0_drift_144 : decode cX0_drift 144 = .ok (.aload 4, 2) := dk_25 4 (dk_at dksX0_drift_6 5 rfl rfl)
theorem dX0_drift_146 : decode cX0_drift 146 = .ok (.invokevirtual 224, 3) := dk_182 0 224 (dk_at dksX0_drift_6 7 rfl rfl)
theorem dX0_drift_149 : decode cX0_drift 149 = .ok (.iload 6, 2) := dk_21 6 (dk_at dksX0_drift_6 10 rfl rfl)
theorem dX0_drift_151 : decode cX0_drift 151 = .ok (.aload_n 0, 1) := dk_42 (dk_at dksX0_drift_6 12 rfl rfl)
theorem dX0_drift_152 : decode cX0_drift 152 = .ok (.getfield 41, 3) := dk_180 0 41 (dk_at dksX0_drift_6 13 rfl rfl)
theorem dX0_drift_155 : decode cX0_drift 155 = .ok (.bipush (-4), 2) := dk_16 252 (dk_at dksX0_drift_6 16 rfl rfl)
theorem dX0_drift_157 : decode cX0_drift 157 = .ok (.if_icmp .ne 7, 3) := dk_160 0 7 (dk_at dksX0_drift_6 18 rfl rfl)
theorem dX0_drift_160 : decode cX0_drift 160 = .ok (.iconst 0, 1) := dk_3 (dk_at dksX0_drift_6 21 rfl rfl)
theorem dX0_drift_161 : decode cX0_drift 161 = .ok (.goto 4, 3) := dk_167 0 4 (dk_at dksX0_drift_7 0 rfl rfl)
theorem dX0_drift_164 : decode cX0_drift 164 = .ok (.iconst 1, 1) := dk_4 (dk_at dksX0_drift_7 3 rfl rfl)
theorem dX0_drift_165 : decode cX0_drift 165 = .ok (.iadd, 1) := dk_96 (dk_at dksX0_drift_7 4 rfl rfl)
theorem dX0_drift_166 : decode cX0_drift 166 = .ok (.istore 6, 2) := dk_54 6 (dk_at dksX0_drift_7 5 rfl rfl)
theorem dX0_drift_168 : decode cX0_drift 168 = .ok (.iload 7, 2) := dk_21 7 (dk_at dksX0_drift_7 7 rfl rfl)
theorem dX0_drift_170 : decode cX0_drift 170 = .ok (.aload_n 0, 1) := dk_42 (dk_at dksX0_drift_7 9 rfl rfl)
theorem dX0_drift_171 : decode cX0_drift 171 = .ok (.aload 4, 2) := dk_25 4 (dk_at dksX0_drift_7 10 rfl rfl)
theorem dX0_drift_173 : decode cX0_drift 173 = .ok (.invokevirtual 230, 3) := dk_182 0 230 (dk_at dksX0_drift_7 12 rfl rfl)
theorem dX0_drift_176 : decode cX0_drift 176 = .ok (.iadd, 1) := dk_96 (dk_at dksX0_drift_7 15 rfl rfl)
theorem dX0_drift_177 : decode cX0_drift 177 = .ok (.istore 7, 2) := dk_54 7 (dk_at dksX0_drift_7 16 rfl rfl)
theorem dX0_drift_179 : decode cX0_drift 179 = .ok (.iinc 8 1, 3) := dk_132 8 1 (dk_at dksX0_drift_7 18 rfl rfl)
theorem dX0_drift_182 : decode cX0_drift 182 = .ok (.goto (-134), 3) := dk_167 255 122 (dk_at dksX0_drift_7 21 rfl rfl)
theorem dX0_drift_185 : decode cX0_drift 185 = .ok (.iload_n 3, 1) := dk_29 (dk_at dksX0_drift_8 0 rfl rfl)
theorem dX0_drift_186 : decode cX0_drift 186 = .ok (.ifCond .ne 8, 3) := dk_154 0 8 (dk_at dksX0_drift_8 1 rfl rfl)
theorem dX0_drift_189 : decode cX0_drift 189 = .ok (.iload 6, 2) := dk_21 6 (dk_at dksX0_drift_8 4 rfl rfl)
theorem dX0_drift_191 : decode cX0_drift 191 = .ok (.goto 5, 3) := dk_167 0 5 (dk_at dksX0_drift_8 6 rfl rfl)
theorem dX0_drift_194 : decode cX0_drift 194 = .ok (.iload 7, 2) := dk_21 7 (dk_at dksX0_drift_8 9 rfl rfl)
theorem dX0_drift_196 : decode cX0_drift 196 = .ok (.ireturn, 1) := dk_172 (dk_at dksX0_drift_8 11 rfl rfl)
def dkwX0_keep_2 : List UInt8 := [28, 172]
abbrev dktX0_keep_2 : List UInt8 := dkwX0_keep_2 ++ []
def dkwX0_keep_1 : List UInt8 := [180, 0, 114, 27, 50, 42, 180, 0, 107, 182, 0, 158, 42, 89, 180, 0, 177, 4, 27, 120, 128, 181, 0, 177]
abbrev dktX0_keep_1 : List UInt8 := dkwX0_keep_1 ++ dktX0_keep_2
def dkwX0_keep_0 : List UInt8 := [27, 133, 9, 10, 184, 0, 136, 154, 0, 5, 2, 172, 42, 180, 0, 177, 27, 122, 4, 126, 61, 42]
abbrev dktX0_keep_0 : List UInt8 := dkwX0_keep_0 ++ dktX0_keep_1
theorem dksX0_keep_0 : cX0_keep.data.toList.drop 0 = dktX0_keep_0 := by decide +kernel
theorem dksX0_keep_1 : cX0_keep.data.toList.drop 22 = dktX0_keep_1 := dk_seg dksX0_keep_0 22 rfl rfl
theorem dksX0_keep_2 : cX0_keep.data.toList.drop 46 = dktX0_keep_2 := dk_seg dksX0_keep_1 24 rfl rfl
theorem dX0_keep_0 : decode cX0_keep 0 = .ok (.iload_n 1, 1) := dk_27 (dk_at dksX0_keep_0 0 rfl rfl)
theorem dX0_keep_1 : decode cX0_keep 1 = .ok (.i2l, 1) := dk_133 (dk_at dksX0_keep_0 1 rfl rfl)
theorem dX0_keep_2 : decode cX0_keep 2 = .ok (.lconst 0, 1) := dk_9 (dk_at dksX0_keep_0 2 rfl rfl)
theorem dX0_keep_3 : decode cX0_keep 3 = .ok (.lconst 1, 1) := dk_10 (dk_at dksX0_keep_0 3 rfl rfl)
theorem dX0_keep_4 : decode cX0_keep 4 = .ok (.invokestatic 136, 3) := dk_184 0 136 (dk_at dksX0_keep_0 4 rfl rfl)
theorem dX0_keep_7 : decode cX0_keep 7 = .ok (.ifCond .ne 5, 3) := dk_154 0 5 (dk_at dksX0_keep_0 7 rfl rfl)
theorem dX0_keep_10 : decode cX0_keep 10 = .ok (.iconst (-1), 1) := dk_2 (dk_at dksX0_keep_0 10 rfl rfl)
theorem dX0_keep_11 : decode cX0_keep 11 = .ok (.ireturn, 1) := dk_172 (dk_at dksX0_keep_0 11 rfl rfl)
theorem dX0_keep_12 : decode cX0_keep 12 = .ok (.aload_n 0, 1) := dk_42 (dk_at dksX0_keep_0 12 rfl rfl)
theorem dX0_keep_13 : decode cX0_keep 13 = .ok (.getfield 177, 3) := dk_180 0 177 (dk_at dksX0_keep_0 13 rfl rfl)
theorem dX0_keep_16 : decode cX0_keep 16 = .ok (.iload_n 1, 1) := dk_27 (dk_at dksX0_keep_0 16 rfl rfl)
theorem dX0_keep_17 : decode cX0_keep 17 = .ok (.ishr, 1) := dk_122 (dk_at dksX0_keep_0 17 rfl rfl)
theorem dX0_keep_18 : decode cX0_keep 18 = .ok (.iconst 1, 1) := dk_4 (dk_at dksX0_keep_0 18 rfl rfl)
theorem dX0_keep_19 : decode cX0_keep 19 = .ok (.iand, 1) := dk_126 (dk_at dksX0_keep_0 19 rfl rfl)
theorem dX0_keep_20 : decode cX0_keep 20 = .ok (.istore_n 2, 1) := dk_61 (dk_at dksX0_keep_0 20 rfl rfl)
theorem dX0_keep_21 : decode cX0_keep 21 = .ok (.aload_n 0, 1) := dk_42 (dk_at dksX0_keep_0 21 rfl rfl)
theorem dX0_keep_22 : decode cX0_keep 22 = .ok (.getfield 114, 3) := dk_180 0 114 (dk_at dksX0_keep_1 0 rfl rfl)
theorem dX0_keep_25 : decode cX0_keep 25 = .ok (.iload_n 1, 1) := dk_27 (dk_at dksX0_keep_1 3 rfl rfl)
theorem dX0_keep_26 : decode cX0_keep 26 = .ok (.aaload, 1) := dk_50 (dk_at dksX0_keep_1 4 rfl rfl)
theorem dX0_keep_27 : decode cX0_keep 27 = .ok (.aload_n 0, 1) := dk_42 (dk_at dksX0_keep_1 5 rfl rfl)
theorem dX0_keep_28 : decode cX0_keep 28 = .ok (.getfield 107, 3) := dk_180 0 107 (dk_at dksX0_keep_1 6 rfl rfl)
theorem dX0_keep_31 : decode cX0_keep 31 = .ok (.invokevirtual 158, 3) := dk_182 0 158 (dk_at dksX0_keep_1 9 rfl rfl)
theorem dX0_keep_34 : decode cX0_keep 34 = .ok (.aload_n 0, 1) := dk_42 (dk_at dksX0_keep_1 12 rfl rfl)
theorem dX0_keep_35 : decode cX0_keep 35 = .ok (.dup, 1) := dk_89 (dk_at dksX0_keep_1 13 rfl rfl)
theorem dX0_keep_36 : decode cX0_keep 36 = .ok (.getfield 177, 3) := dk_180 0 177 (dk_at dksX0_keep_1 14 rfl rfl)
theorem dX0_keep_39 : decode cX0_keep 39 = .ok (.iconst 1, 1) := dk_4 (dk_at dksX0_keep_1 17 rfl rfl)
theorem dX0_keep_40 : decode cX0_keep 40 = .ok (.iload_n 1, 1) := dk_27 (dk_at dksX0_keep_1 18 rfl rfl)
theorem dX0_keep_41 : decode cX0_keep 41 = .ok (.ishl, 1) := dk_120 (dk_at dksX0_keep_1 19 rfl rfl)
theorem dX0_keep_42 : decode cX0_keep 42 = .ok (.ior, 1) := dk_128 (dk_at dksX0_keep_1 20 rfl rfl)
theorem dX0_keep_43 : decode cX0_keep 43 = .ok (.putfield 177, 3) := dk_181 0 177 (dk_at dksX0_keep_1 21 rfl rfl)
theorem dX0_keep_46 : decode cX0_keep 46 = .ok (.iload_n 2, 1) := dk_28 (dk_at dksX0_keep_2 0 rfl rfl)
theorem dX0_keep_47 : decode cX0_keep 47 = .ok (.ireturn, 1) := dk_172 (dk_at dksX0_keep_2 1 rfl rfl)
def dkwX0_back_2 : List UInt8 := [184, 0, 238, 172]
abbrev dktX0_back_2 : List UInt8 := dkwX0_back_2 ++ []
def dkwX0_back_1 : List UInt8 := [16, 254, 172, 42, 180, 0, 107, 42, 180, 0, 114, 27, 50, 182, 0, 158, 42, 180, 0, 107, 182, 0, 193]
abbrev dktX0_back_1 : List UInt8 := dkwX0_back_1 ++ dktX0_back_2
def dkwX0_back_0 : List UInt8 := [27, 133, 9, 10, 184, 0, 136, 154, 0, 5, 2, 172, 42, 180, 0, 177, 27, 184, 0, 11, 154, 0, 6]
abbrev dktX0_back_0 : List UInt8 := dkwX0_back_0 ++ dktX0_back_1
theorem dksX0_back_0 : cX0_back.data.toList.drop 0 = dktX0_back_0 := by decide +kernel
theorem dksX0_back_1 : cX0_back.data.toList.drop 23 = dktX0_back_1 := dk_seg dksX0_back_0 23 rfl rfl
theorem dksX0_back_2 : cX0_back.data.toList.drop 46 = dktX0_back_2 := dk_seg dksX0_back_1 23 rfl rfl
theorem dX0_back_0 : decode cX0_back 0 = .ok (.iload_n 1, 1) := dk_27 (dk_at dksX0_back_0 0 rfl rfl)
theorem dX0_back_1 : decode cX0_back 1 = .ok (.i2l, 1) := dk_133 (dk_at dksX0_back_0 1 rfl rfl)
theorem dX0_back_2 : decode cX0_back 2 = .ok (.lconst 0, 1) := dk_9 (dk_at dksX0_back_0 2 rfl rfl)
theorem dX0_back_3 : decode cX0_back 3 = .ok (.lconst 1, 1) := dk_10 (dk_at dksX0_back_0 3 rfl rfl)
theorem dX0_back_4 : decode cX0_back 4 = .ok (.invokestatic 136, 3) := dk_184 0 136 (dk_at dksX0_back_0 4 rfl rfl)
theorem dX0_back_7 : decode cX0_back 7 = .ok (.ifCond .ne 5, 3) := dk_154 0 5 (dk_at dksX0_back_0 7 rfl rfl)
theorem dX0_back_10 : decode cX0_back 10 = .ok (.iconst (-1), 1) := dk_2 (dk_at dksX0_back_0 10 rfl rfl)
theorem dX0_back_11 : decode cX0_back 11 = .ok (.ireturn, 1) := dk_172 (dk_at dksX0_back_0 11 rfl rfl)
theorem dX0_back_12 : decode cX0_back 12 = .ok (.aload_n 0, 1) := dk_42 (dk_at dksX0_back_0 12 rfl rfl)
theorem dX0_back_13 : decode cX0_back 13 = .ok (.getfield 177, 3) := dk_180 0 177 (dk_at dksX0_back_0 13 rfl rfl)
theorem dX0_back_16 : decode cX0_back 16 = .ok (.iload_n 1, 1) := dk_27 (dk_at dksX0_back_0 16 rfl rfl)
theorem dX0_back_17 : decode cX0_back 17 = .ok (.invokestatic 11, 3) := dk_184 0 11 (dk_at dksX0_back_0 17 rfl rfl)
theorem dX0_back_20 : decode cX0_back 20 = .ok (.ifCond .ne 6, 3) := dk_154 0 6 (dk_at dksX0_back_0 20 rfl rfl)
theorem dX0_back_23 : decode cX0_back 23 = .ok (.bipush (-2), 2) := dk_16 254 (dk_at dksX0_back_1 0 rfl rfl)
theorem dX0_back_25 : decode cX0_back 25 = .ok (.ireturn, 1) := dk_172 (dk_at dksX0_back_1 2 rfl rfl)
theorem dX0_back_26 : decode cX0_back 26 = .ok (.aload_n 0, 1) := dk_42 (dk_at dksX0_back_1 3 rfl rfl)
theorem dX0_back_27 : decode cX0_back 27 = .ok (.getfield 107, 3) := dk_180 0 107 (dk_at dksX0_back_1 4 rfl rfl)
theorem dX0_back_30 : decode cX0_back 30 = .ok (.aload_n 0, 1) := dk_42 (dk_at dksX0_back_1 7 rfl rfl)
theorem dX0_back_31 : decode cX0_back 31 = .ok (.getfield 114, 3) := dk_180 0 114 (dk_at dksX0_back_1 8 rfl rfl)
theorem dX0_back_34 : decode cX0_back 34 = .ok (.iload_n 1, 1) := dk_27 (dk_at dksX0_back_1 11 rfl rfl)
theorem dX0_back_35 : decode cX0_back 35 = .ok (.aaload, 1) := dk_50 (dk_at dksX0_back_1 12 rfl rfl)
theorem dX0_back_36 : decode cX0_back 36 = .ok (.invokevirtual 158, 3) := dk_182 0 158 (dk_at dksX0_back_1 13 rfl rfl)
theorem dX0_back_39 : decode cX0_back 39 = .ok (.aload_n 0, 1) := dk_42 (dk_at dksX0_back_1 16 rfl rfl)
theorem dX0_back_40 : decode cX0_back 40 = .ok (.getfield 107, 3) := dk_180 0 107 (dk_at dksX0_back_1 17 rfl rfl)
theorem dX0_back_43 : decode cX0_back 43 = .ok (.invokevirtual 193, 3) := dk_182 0 193 (dk_at dksX0_back_1 20 rfl rfl)
theorem dX0_back_46 : decode cX0_back 46 = .ok (.invokestatic 238, 3) := dk_184 0 238 (dk_at dksX0_back_2 0 rfl rfl)
theorem dX0_back_49 : decode cX0_back 49 = .ok (.ireturn, 1) := dk_172 (dk_at dksX0_back_2 3 rfl rfl)
def dkwX0_sheet_2 : List UInt8 := [181, 1, 41, 4, 172, 58, 4, 16, 242, 172]
abbrev dktX0_sheet_2 : List UInt8 := dkwX0_sheet_2 ++ []
def dkwX0_sheet_1 : List UInt8 := [154, 0, 9, 29, 188, 8, 167, 0, 17, 28, 4, 160, 0, 9, 29, 188, 9, 167, 0, 6, 29, 188, 10]
abbrev dktX0_sheet_1 : List UInt8 := dkwX0_sheet_1 ++ dktX0_sheet_2
def dkwX0_sheet_0 : List UInt8 := [27, 28, 184, 1, 38, 153, 0, 9, 29, 16, 40, 164, 0, 5, 2, 172, 42, 180, 0, 129, 27, 50, 28]
abbrev dktX0_sheet_0 : List UInt8 := dkwX0_sheet_0 ++ dktX0_sheet_1
theorem dksX0_sheet_0 : cX0_sheet.data.toList.drop 0 = dktX0_sheet_0 := by decide +kernel
theorem dksX0_sheet_1 : cX0_sheet.data.toList.drop 23 = dktX0_sheet_1 := dk_seg dksX0_sheet_0 23 rfl rfl
theorem dksX0_sheet_2 : cX0_sheet.data.toList.drop 46 = dktX0_sheet_2 := dk_seg dksX0_sheet_1 23 rfl rfl
theorem dX0_sheet_0 : decode cX0_sheet 0 = .ok (.iload_n 1, 1) := dk_27 (dk_at dksX0_sheet_0 0 rfl rfl)
theorem dX0_sheet_1 : decode cX0_sheet 1 = .ok (.iload_n 2, 1) := dk_28 (dk_at dksX0_sheet_0 1 rfl rfl)
theorem dX0_sheet_2 : decode cX0_sheet 2 = .ok (.invokestatic 294, 3) := dk_184 1 38 (dk_at dksX0_sheet_0 2 rfl rfl)
theorem dX0_sheet_5 : decode cX0_sheet 5 = .ok (.ifCond .eq 9, 3) := dk_153 0 9 (dk_at dksX0_sheet_0 5 rfl rfl)
theorem dX0_sheet_8 : decode cX0_sheet 8 = .ok (.iload_n 3, 1) := dk_29 (dk_at dksX0_sheet_0 8 rfl rfl)
theorem dX0_sheet_9 : decode cX0_sheet 9 = .ok (.bipush 40, 2) := dk_16 40 (dk_at dksX0_sheet_0 9 rfl rfl)
theorem dX0_sheet_11 : decode cX0_sheet 11 = .ok (.if_icmp .le 5, 3) := dk_164 0 5 (dk_at dksX0_sheet_0 11 rfl rfl)
theorem dX0_sheet_14 : decode cX0_sheet 14 = .ok (.iconst (-1), 1) := dk_2 (dk_at dksX0_sheet_0 14 rfl rfl)
theorem dX0_sheet_15 : decode cX0_sheet 15 = .ok (.ireturn, 1) := dk_172 (dk_at dksX0_sheet_0 15 rfl rfl)
theorem dX0_sheet_16 : decode cX0_sheet 16 = .ok (.aload_n 0, 1) := dk_42 (dk_at dksX0_sheet_0 16 rfl rfl)
theorem dX0_sheet_17 : decode cX0_sheet 17 = .ok (.getfield 129, 3) := dk_180 0 129 (dk_at dksX0_sheet_0 17 rfl rfl)
theorem dX0_sheet_20 : decode cX0_sheet 20 = .ok (.iload_n 1, 1) := dk_27 (dk_at dksX0_sheet_0 20 rfl rfl)
theorem dX0_sheet_21 : decode cX0_sheet 21 = .ok (.aaload, 1) := dk_50 (dk_at dksX0_sheet_0 21 rfl rfl)
theorem dX0_sheet_22 : decode cX0_sheet 22 = .ok (.iload_n 2, 1) := dk_28 (dk_at dksX0_sheet_0 22 rfl rfl)
theorem dX0_sheet_23 : decode cX0_sheet 23 = .ok (.ifCond .ne 9, 3) := dk_154 0 9 (dk_at dksX0_sheet_1 0 rfl rfl)
theorem dX0_sheet_26 : decode cX0_sheet 26 = .ok (.iload_n 3, 1) := dk_29 (dk_at dksX0_sheet_1 3 rfl rfl)
theorem dX0_sheet_27 : decode cX0_sheet 27 = .ok (.newarray .byte, 2) := dk_188_8 (dk_at dksX0_sheet_1 4 rfl rfl)
theorem dX0_sheet_29 : decode cX0_sheet 29 = .ok (.goto 17, 3) := dk_167 0 17 (dk_at dksX0_sheet_1 6 rfl rfl)
theorem dX0_sheet_32 : decode cX0_sheet 32 = .ok (.iload_n 2, 1) := dk_28 (dk_at dksX0_sheet_1 9 rfl rfl)
theorem dX0_sheet_33 : decode cX0_sheet 33 = .ok (.iconst 1, 1) := dk_4 (dk_at dksX0_sheet_1 10 rfl rfl)
theorem dX0_sheet_34 : decode cX0_sheet 34 = .ok (.if_icmp .ne 9, 3) := dk_160 0 9 (dk_at dksX0_sheet_1 11 rfl rfl)
theorem dX0_sheet_37 : decode cX0_sheet 37 = .ok (.iload_n 3, 1) := dk_29 (dk_at dksX0_sheet_1 14 rfl rfl)
theorem dX0_sheet_38 : decode cX0_sheet 38 = .ok (.newarray .short, 2) := dk_188_9 (dk_at dksX0_sheet_1 15 rfl rfl)
theorem dX0_sheet_40 : decode cX0_sheet 40 = .ok (.goto 6, 3) := dk_167 0 6 (dk_at dksX0_sheet_1 17 rfl rfl)
theorem dX0_sheet_43 : decode cX0_sheet 43 = .ok (.iload_n 3, 1) := dk_29 (dk_at dksX0_sheet_1 20 rfl rfl)
theorem dX0_sheet_44 : decode cX0_sheet 44 = .ok (.newarray .int, 2) := dk_188_10 (dk_at dksX0_sheet_1 21 rfl rfl)
theorem dX0_sheet_46 : decode cX0_sheet 46 = .ok (.putfield 297, 3) := dk_181 1 41 (dk_at dksX0_sheet_2 0 rfl rfl)
theorem dX0_sheet_49 : decode cX0_sheet 49 = .ok (.iconst 1, 1) := dk_4 (dk_at dksX0_sheet_2 3 rfl rfl)
theorem dX0_sheet_50 : decode cX0_sheet 50 = .ok (.ireturn, 1) := dk_172 (dk_at dksX0_sheet_2 4 rfl rfl)
theorem dX0_sheet_51 : decode cX0_sheet 51 = .ok (.astore 4, 2) := dk_58 4 (dk_at dksX0_sheet_2 5 rfl rfl)
theorem dX0_sheet_53 : decode cX0_sheet 53 = .ok (.bipush (-14), 2) := dk_16 242 (dk_at dksX0_sheet_2 7 rfl rfl)
theorem dX0_sheet_55 : decode cX0_sheet 55 = .ok (.ireturn, 1) := dk_172 (dk_at dksX0_sheet_2 9 rfl rfl)
def dkwX0_isSheet_1 : List UInt8 := [4, 167, 0, 4, 3, 172]
abbrev dktX0_isSheet_1 : List UInt8 := dkwX0_isSheet_1 ++ []
def dkwX0_isSheet_0 : List UInt8 := [26, 133, 9, 20, 0, 208, 184, 0, 136, 153, 0, 19, 27, 133, 9, 20, 0, 200, 184, 0, 136, 153, 0, 7]
abbrev dktX0_isSheet_0 : List UInt8 := dkwX0_isSheet_0 ++ dktX0_isSheet_1
theorem dksX0_isSheet_0 : cX0_isSheet.data.toList.drop 0 = dktX0_isSheet_0 := by decide +kernel
theorem dksX0_isSheet_1 : cX0_isSheet.data.toList.drop 24 = dktX0_isSheet_1 := dk_seg dksX0_isSheet_0 24 rfl rfl
theorem dX0_isSheet_0 : decode cX0_isSheet 0 = .ok (.iload_n 0, 1) := dk_26 (dk_at dksX0_isSheet_0 0 rfl rfl)
theorem dX0_isSheet_1 : decode cX0_isSheet 1 = .ok (.i2l, 1) := dk_133 (dk_at dksX0_isSheet_0 1 rfl rfl)
theorem dX0_isSheet_2 : decode cX0_isSheet 2 = .ok (.lconst 0, 1) := dk_9 (dk_at dksX0_isSheet_0 2 rfl rfl)
theorem dX0_isSheet_3 : decode cX0_isSheet 3 = .ok (.ldc2_w 208, 3) := dk_20 0 208 (dk_at dksX0_isSheet_0 3 rfl rfl)
theorem dX0_isSheet_6 : decode cX0_isSheet 6 = .ok (.invokestatic 136, 3) := dk_184 0 136 (dk_at dksX0_isSheet_0 6 rfl rfl)
theorem dX0_isSheet_9 : decode cX0_isSheet 9 = .ok (.ifCond .eq 19, 3) := dk_153 0 19 (dk_at dksX0_isSheet_0 9 rfl rfl)
theorem dX0_isSheet_12 : decode cX0_isSheet 12 = .ok (.iload_n 1, 1) := dk_27 (dk_at dksX0_isSheet_0 12 rfl rfl)
theorem dX0_isSheet_13 : decode cX0_isSheet 13 = .ok (.i2l, 1) := dk_133 (dk_at dksX0_isSheet_0 13 rfl rfl)
theorem dX0_isSheet_14 : decode cX0_isSheet 14 = .ok (.lconst 0, 1) := dk_9 (dk_at dksX0_isSheet_0 14 rfl rfl)
theorem dX0_isSheet_15 : decode cX0_isSheet 15 = .ok (.ldc2_w 200, 3) := dk_20 0 200 (dk_at dksX0_isSheet_0 15 rfl rfl)
theorem dX0_isSheet_18 : decode cX0_isSheet 18 = .ok (.invokestatic 136, 3) := dk_184 0 136 (dk_at dksX0_isSheet_0 18 rfl rfl)
theorem dX0_isSheet_21 : decode cX0_isSheet 21 = .ok (.ifCond .eq 7, 3) := dk_153 0 7 (dk_at dksX0_isSheet_0 21 rfl rfl)
theorem dX0_isSheet_24 : decode cX0_isSheet 24 = .ok (.iconst 1, 1) := dk_4 (dk_at dksX0_isSheet_1 0 rfl rfl)
theorem dX0_isSheet_25 : decode cX0_isSheet 25 = .ok (.goto 4, 3) := dk_167 0 4 (dk_at dksX0_isSheet_1 1 rfl rfl)
theorem dX0_isSheet_28 : decode cX0_isSheet 28 = .ok (.iconst 0, 1) := dk_3 (dk_at dksX0_isSheet_1 4 rfl rfl)
theorem dX0_isSheet_29 : decode cX0_isSheet 29 = .ok (.ireturn, 1) := dk_172 (dk_at dksX0_isSheet_1 5 rfl rfl)
def dkwX0_lay_3 : List UInt8 := [29, 79, 4, 172, 58, 5, 16, 245, 172, 58, 5, 16, 244, 172]
abbrev dktX0_lay_3 : List UInt8 := dkwX0_lay_3 ++ []
def dkwX0_lay_2 : List UInt8 := [193, 1, 48, 153, 0, 15, 25, 4, 192, 1, 48, 28, 29, 147, 86, 167, 0, 11, 25, 4, 192, 1, 50, 28]
abbrev dktX0_lay_2 : List UInt8 := dkwX0_lay_2 ++ dktX0_lay_3
def dkwX0_lay_1 : List UInt8 := [58, 4, 25, 4, 193, 1, 47, 153, 0, 15, 25, 4, 192, 1, 47, 28, 29, 145, 84, 167, 0, 31, 25, 4]
abbrev dktX0_lay_1 : List UInt8 := dkwX0_lay_1 ++ dktX0_lay_2
def dkwX0_lay_0 : List UInt8 := [27, 133, 9, 20, 0, 208, 184, 0, 136, 154, 0, 5, 2, 172, 42, 180, 0, 129, 27, 50, 180, 1, 41]
abbrev dktX0_lay_0 : List UInt8 := dkwX0_lay_0 ++ dktX0_lay_1
theorem dksX0_lay_0 : cX0_lay.data.toList.drop 0 = dktX0_lay_0 := by decide +kernel
theorem dksX0_lay_1 : cX0_lay.data.toList.drop 23 = dktX0_lay_1 := dk_seg dksX0_lay_0 23 rfl rfl
theorem dksX0_lay_2 : cX0_lay.data.toList.drop 47 = dktX0_lay_2 := dk_seg dksX0_lay_1 24 rfl rfl
theorem dksX0_lay_3 : cX0_lay.data.toList.drop 71 = dktX0_lay_3 := dk_seg dksX0_lay_2 24 rfl rfl
theorem dX0_lay_0 : decode cX0_lay 0 = .ok (.iload_n 1, 1) := dk_27 (dk_at dksX0_lay_0 0 rfl rfl)
theorem dX0_lay_1 : decode cX0_lay 1 = .ok (.i2l, 1) := dk_133 (dk_at dksX0_lay_0 1 rfl rfl)
theorem dX0_lay_2 : decode cX0_lay 2 = .ok (.lconst 0, 1) := dk_9 (dk_at dksX0_lay_0 2 rfl rfl)
theorem dX0_lay_3 : decode cX0_lay 3 = .ok (.ldc2_w 208, 3) := dk_20 0 208 (dk_at dksX0_lay_0 3 rfl rfl)
theorem dX0_lay_6 : decode cX0_lay 6 = .ok (.invokestatic 136, 3) := dk_184 0 136 (dk_at dksX0_lay_0 6 rfl rfl)
theorem dX0_lay_9 : decode cX0_lay 9 = .ok (.ifCond .ne 5, 3) := dk_154 0 5 (dk_at dksX0_lay_0 9 rfl rfl)
theorem dX0_lay_12 : decode cX0_lay 12 = .ok (.iconst (-1), 1) := dk_2 (dk_at dksX0_lay_0 12 rfl rfl)
theorem dX0_lay_13 : decode cX0_lay 13 = .ok (.ireturn, 1) := dk_172 (dk_at dksX0_lay_0 13 rfl rfl)
theorem dX0_lay_14 : decode cX0_lay 14 = .ok (.aload_n 0, 1) := dk_42 (dk_at dksX0_lay_0 14 rfl rfl)
theorem dX0_lay_15 : decode cX0_lay 15 = .ok (.getfield 129, 3) := dk_180 0 129 (dk_at dksX0_lay_0 15 rfl rfl)
theorem dX0_lay_18 : decode cX0_lay 18 = .ok (.iload_n 1, 1) := dk_27 (dk_at dksX0_lay_0 18 rfl rfl)
theorem dX0_lay_19 : decode cX0_lay 19 = .ok (.aaload, 1) := dk_50 (dk_at dksX0_lay_0 19 rfl rfl)
theorem dX0_lay_20 : decode cX0_lay 20 = .ok (.getfield 297, 3) := dk_180 1 41 (dk_at dksX0_lay_0 20 rfl rfl)
theorem dX0_lay_23 : decode cX0_lay 23 = .ok (.astore 4, 2) := dk_58 4 (dk_at dksX0_lay_1 0 rfl rfl)
theorem dX0_lay_25 : decode cX0_lay 25 = .ok (.aload 4, 2) := dk_25 4 (dk_at dksX0_lay_1 2 rfl rfl)
theorem dX0_lay_27 : decode cX0_lay 27 = .ok (.instanceof 303, 3) := dk_193 1 47 (dk_at dksX0_lay_1 4 rfl rfl)
theorem dX0_lay_30 : decode cX0_lay 30 = .ok (.ifCond .eq 15, 3) := dk_153 0 15 (dk_at dksX0_lay_1 7 rfl rfl)
theorem dX0_lay_33 : decode cX0_lay 33 = .ok (.aload 4, 2) := dk_25 4 (dk_at dksX0_lay_1 10 rfl rfl)
theorem dX0_lay_35 : decode cX0_lay 35 = .ok (.checkcast 303, 3) := dk_192 1 47 (dk_at dksX0_lay_1 12 rfl rfl)
theorem dX0_lay_38 : decode cX0_lay 38 = .ok (.iload_n 2, 1) := dk_28 (dk_at dksX0_lay_1 15 rfl rfl)
theorem dX0_lay_39 : decode cX0_lay 39 = .ok (.iload_n 3, 1) := dk_29 (dk_at dksX0_lay_1 16 rfl rfl)
theorem dX0_lay_40 : decode cX0_lay 40 = .ok (.i2b, 1) := dk_145 (dk_at dksX0_lay_1 17 rfl rfl)
theorem dX0_lay_41 : decode cX0_lay 41 = .ok (.bastore, 1) := dk_84 (dk_at dksX0_lay_1 18 rfl rfl)
theorem dX0_lay_42 : decode cX0_lay 42 = .ok (.goto 31, 3) := dk_167 0 31 (dk_at dksX0_lay_1 19 rfl rfl)
theorem dX0_lay_45 : decode cX0_lay 45 = .ok (.aload 4, 2) := dk_25 4 (dk_at dksX0_lay_1 22 rfl rfl)
theorem dX0_lay_47 : decode cX0_lay 47 = .ok (.instanceof 304, 3) := dk_193 1 48 (dk_at dksX0_lay_2 0 rfl rfl)
theorem dX0_lay_50 : decode cX0_lay 50 = .ok (.ifCond .eq 15, 3) := dk_153 0 15 (dk_at dksX0_lay_2 3 rfl rfl)
theorem dX0_lay_53 : decode cX0_lay 53 = .ok (.aload 4, 2) := dk_25 4 (dk_at dksX0_lay_2 6 rfl rfl)
theorem dX0_lay_55 : decode cX0_lay 55 = .ok (.checkcast 304, 3) := dk_192 1 48 (dk_at dksX0_lay_2 8 rfl rfl)
theorem dX0_lay_58 : decode cX0_lay 58 = .ok (.iload_n 2, 1) := dk_28 (dk_at dksX0_lay_2 11 rfl rfl)
theorem dX0_lay_59 : decode cX0_lay 59 = .ok (.iload_n 3, 1) := dk_29 (dk_at dksX0_lay_2 12 rfl rfl)
theorem dX0_lay_60 : decode cX0_lay 60 = .ok (.i2s, 1) := dk_147 (dk_at dksX0_lay_2 13 rfl rfl)
theorem dX0_lay_61 : decode cX0_lay 61 = .ok (.sastore, 1) := dk_86 (dk_at dksX0_lay_2 14 rfl rfl)
theorem dX0_lay_62 : decode cX0_lay 62 = .ok (.goto 11, 3) := dk_167 0 11 (dk_at dksX0_lay_2 15 rfl rfl)
theorem dX0_lay_65 : decode cX0_lay 65 = .ok (.aload 4, 2) := dk_25 4 (dk_at dksX0_lay_2 18 rfl rfl)
theorem dX0_lay_67 : decode cX0_lay 67 = .ok (.checkcast 306, 3) := dk_192 1 50 (dk_at dksX0_lay_2 20 rfl rfl)
theorem dX0_lay_70 : decode cX0_lay 70 = .ok (.iload_n 2, 1) := dk_28 (dk_at dksX0_lay_2 23 rfl rfl)
theorem dX0_lay_71 : decode cX0_lay 71 = .ok (.iload_n 3, 1) := dk_29 (dk_at dksX0_lay_3 0 rfl rfl)
theorem dX0_lay_72 : decode cX0_lay 72 = .ok (.iastore, 1) := dk_79 (dk_at dksX0_lay_3 1 rfl rfl)
theorem dX0_lay_73 : decode cX0_lay 73 = .ok (.iconst 1, 1) := dk_4 (dk_at dksX0_lay_3 2 rfl rfl)
theorem dX0_lay_74 : decode cX0_lay 74 = .ok (.ireturn, 1) := dk_172 (dk_at dksX0_lay_3 3 rfl rfl)
theorem dX0_lay_75 : decode cX0_lay 75 = .ok (.astore 5, 2) := dk_58 5 (dk_at dksX0_lay_3 4 rfl rfl)
theorem dX0_lay_77 : decode cX0_lay 77 = .ok (.bipush (-11), 2) := dk_16 245 (dk_at dksX0_lay_3 6 rfl rfl)
theorem dX0_lay_79 : decode cX0_lay 79 = .ok (.ireturn, 1) := dk_172 (dk_at dksX0_lay_3 8 rfl rfl)
theorem dX0_lay_80 : decode cX0_lay 80 = .ok (.astore 5, 2) := dk_58 5 (dk_at dksX0_lay_3 9 rfl rfl)
theorem dX0_lay_82 : decode cX0_lay 82 = .ok (.bipush (-12), 2) := dk_16 244 (dk_at dksX0_lay_3 11 rfl rfl)
theorem dX0_lay_84 : decode cX0_lay 84 = .ok (.ireturn, 1) := dk_172 (dk_at dksX0_lay_3 13 rfl rfl)
def dkwX0_read_5 : List UInt8 := [58, 7, 6, 54, 5, 167, 0, 8, 58, 7, 5, 54, 5, 42, 21, 5, 181, 1, 64, 21, 6, 172]
abbrev dktX0_read_5 : List UInt8 := dkwX0_read_5 ++ []
def dkwX0_read_4 : List UInt8 := [16, 236, 21, 6, 100, 172, 132, 6, 1, 167, 255, 192, 167, 0, 24, 58, 7, 4, 54, 5, 167, 0, 16]
abbrev dktX0_read_4 : List UInt8 := dkwX0_read_4 ++ dktX0_read_5
def dkwX0_read_3 : List UInt8 := [96, 4, 96, 182, 1, 55, 182, 1, 59, 156, 0, 20, 42, 180, 0, 107, 42, 180, 0, 111, 182, 0, 158]
abbrev dktX0_read_3 : List UInt8 := dkwX0_read_3 ++ dktX0_read_4
def dkwX0_read_2 : List UInt8 := [27, 28, 29, 5, 21, 6, 104, 96, 182, 1, 55, 54, 7, 42, 21, 7, 42, 27, 28, 29, 5, 21, 6, 104]
abbrev dktX0_read_2 : List UInt8 := dkwX0_read_2 ++ dktX0_read_3
def dkwX0_read_1 : List UInt8 := [180, 0, 111, 42, 180, 0, 107, 182, 0, 158, 3, 54, 5, 3, 54, 6, 21, 6, 21, 4, 162, 0, 63, 42]
abbrev dktX0_read_1 : List UInt8 := dkwX0_read_1 ++ dktX0_read_2
def dkwX0_read_0 : List UInt8 := [27, 28, 184, 1, 38, 153, 0, 16, 21, 4, 133, 9, 20, 1, 35, 184, 0, 136, 154, 0, 5, 2, 172, 42]
abbrev dktX0_read_0 : List UInt8 := dkwX0_read_0 ++ dktX0_read_1
theorem dksX0_read_0 : cX0_read.data.toList.drop 0 = dktX0_read_0 := by decide +kernel
theorem dksX0_read_1 : cX0_read.data.toList.drop 24 = dktX0_read_1 := dk_seg dksX0_read_0 24 rfl rfl
theorem dksX0_read_2 : cX0_read.data.toList.drop 48 = dktX0_read_2 := dk_seg dksX0_read_1 24 rfl rfl
theorem dksX0_read_3 : cX0_read.data.toList.drop 72 = dktX0_read_3 := dk_seg dksX0_read_2 24 rfl rfl
theorem dksX0_read_4 : cX0_read.data.toList.drop 95 = dktX0_read_4 := dk_seg dksX0_read_3 23 rfl rfl
theorem dksX0_read_5 : cX0_read.data.toList.drop 118 = dktX0_read_5 := dk_seg dksX0_read_4 23 rfl rfl
theorem dX0_read_0 : decode cX0_read 0 = .ok (.iload_n 1, 1) := dk_27 (dk_at dksX0_read_0 0 rfl rfl)
theorem dX0_read_1 : decode cX0_read 1 = .ok (.iload_n 2, 1) := dk_28 (dk_at dksX0_read_0 1 rfl rfl)
theorem dX0_read_2 : decode cX0_read 2 = .ok (.invokestatic 294, 3) := dk_184 1 38 (dk_at dksX0_read_0 2 rfl rfl)
theorem dX0_read_5 : decode cX0_read 5 = .ok (.ifCond .eq 16, 3) := dk_153 0 16 (dk_at dksX0_read_0 5 rfl rfl)
theorem dX0_read_8 : decode cX0_read 8 = .ok (.iload 4, 2) := dk_21 4 (dk_at dksX0_read_0 8 rfl rfl)
theorem dX0_read_10 : decode cX0_read 10 = .ok (.i2l, 1) := dk_133 (dk_at dksX0_read_0 10 rfl rfl)
theorem dX0_read_11 : decode cX0_read 11 = .ok (.lconst 0, 1) := dk_9 (dk_at dksX0_read_0 11 rfl rfl)
theorem dX0_read_12 : decode cX0_read 12 = .ok (.ldc2_w 291, 3) := dk_20 1 35 (dk_at dksX0_read_0 12 rfl rfl)
theorem dX0_read_15 : decode cX0_read 15 = .ok (.invokestatic 136, 3) := dk_184 0 136 (dk_at dksX0_read_0 15 rfl rfl)
theorem dX0_read_18 : decode cX0_read 18 = .ok (.ifCond .ne 5, 3) := dk_154 0 5 (dk_at dksX0_read_0 18 rfl rfl)
theorem dX0_read_21 : decode cX0_read 21 = .ok (.iconst (-1), 1) := dk_2 (dk_at dksX0_read_0 21 rfl rfl)
theorem dX0_read_22 : decode cX0_read 22 = .ok (.ireturn, 1) := dk_172 (dk_at dksX0_read_0 22 rfl rfl)
theorem dX0_read_23 : decode cX0_read 23 = .ok (.aload_n 0, 1) := dk_42 (dk_at dksX0_read_0 23 rfl rfl)
theorem dX0_read_24 : decode cX0_read 24 = .ok (.getfield 111, 3) := dk_180 0 111 (dk_at dksX0_read_1 0 rfl rfl)
theorem dX0_read_27 : decode cX0_read 27 = .ok (.aload_n 0, 1) := dk_42 (dk_at dksX0_read_1 3 rfl rfl)
theorem dX0_read_28 : decode cX0_read 28 = .ok (.getfield 107, 3) := dk_180 0 107 (dk_at dksX0_read_1 4 rfl rfl)
theorem dX0_read_31 : decode cX0_read 31 = .ok (.invokevirtual 158, 3) := dk_182 0 158 (dk_at dksX0_read_1 7 rfl rfl)
theorem dX0_read_34 : decode cX0_read 34 = .ok (.iconst 0, 1) := dk_3 (dk_at dksX0_read_1 10 rfl rfl)
theorem dX0_read_35 : decode cX0_read 35 = .ok (.istore 5, 2) := dk_54 5 (dk_at dksX0_read_1 11 rfl rfl)
theorem dX0_read_37 : decode cX0_read 37 = .ok (.iconst 0, 1) := dk_3 (dk_at dksX0_read_1 13 rfl rfl)
theorem dX0_read_38 : decode cX0_read 38 = .ok (.istore 6, 2) := dk_54 6 (dk_at dksX0_read_1 14 rfl rfl)
theorem dX0_read_40 : decode cX0_read 40 = .ok (.iload 6, 2) := dk_21 6 (dk_at dksX0_read_1 16 rfl rfl)
theorem dX0_read_42 : decode cX0_read 42 = .ok (.iload 4, 2) := dk_21 4 (dk_at dksX0_read_1 18 rfl rfl)
theorem dX0_read_44 : decode cX0_read 44 = .ok (.if_icmp .ge 63, 3) := dk_162 0 63 (dk_at dksX0_read_1 20 rfl rfl)
theorem dX0_read_47 : decode cX0_read 47 = .ok (.aload_n 0, 1) := dk_42 (dk_at dksX0_read_1 23 rfl rfl)
theorem dX0_read_48 : decode cX0_read 48 = .ok (.iload_n 1, 1) := dk_27 (dk_at dksX0_read_2 0 rfl rfl)
theorem dX0_read_49 : decode cX0_read 49 = .ok (.iload_n 2, 1) := dk_28 (dk_at dksX0_read_2 1 rfl rfl)
theorem dX0_read_50 : decode cX0_read 50 = .ok (.iload_n 3, 1) := dk_29 (dk_at dksX0_read_2 2 rfl rfl)
theorem dX0_read_51 : decode cX0_read 51 = .ok (.iconst 2, 1) := dk_5 (dk_at dksX0_read_2 3 rfl rfl)
theorem dX0_read_52 : decode cX0_read 52 = .ok (.iload 6, 2) := dk_21 6 (dk_at dksX0_read_2 4 rfl rfl)
theorem dX0_read_54 : decode cX0_read 54 = .ok (.imul, 1) := dk_104 (dk_at dksX0_read_2 6 rfl rfl)
theorem dX0_read_55 : decode cX0_read 55 = .ok (.iadd, 1) := dk_96 (dk_at dksX0_read_2 7 rfl rfl)
theorem dX0_read_56 : decode cX0_read 56 = .ok (.invokevirtual 311, 3) := dk_182 1 55 (dk_at dksX0_read_2 8 rfl rfl)
theorem dX0_read_59 : decode cX0_read 59 = .ok (.istore 7, 2) := dk_54 7 (dk_at dksX0_read_2 11 rfl rfl)
theorem dX0_read_61 : decode cX0_read 61 = .ok (.aload_n 0, 1) := dk_42 (dk_at dksX0_read_2 13 rfl rfl)
theorem dX0_read_62 : decode cX0_read 62 = .ok (.iload 7, 2) := dk_21 7 (dk_at dksX0_read_2 14 rfl rfl)
theorem dX0_read_64 : decode cX0_read 64 = .ok (.aload_n 0, 1) := dk_42 (dk_at dksX0_read_2 16 rfl rfl)
theorem dX0_read_65 : decode cX0_read 65 = .ok (.iload_n 1, 1) := dk_27 (dk_at dksX0_read_2 17 rfl rfl)
theorem dX0_read_66 : decode cX0_read 66 = .ok (.iload_n 2, 1) := dk_28 (dk_at dksX0_read_2 18 rfl rfl)
theorem dX0_read_67 : decode cX0_read 67 = .ok (.iload_n 3, 1) := dk_29 (dk_at dksX0_read_2 19 rfl rfl)
theorem dX0_read_68 : decode cX0_read 68 = .ok (.iconst 2, 1) := dk_5 (dk_at dksX0_read_2 20 rfl rfl)
theorem dX0_read_69 : decode cX0_read 69 = .ok (.iload 6, 2) := dk_21 6 (dk_at dksX0_read_2 21 rfl rfl)
theorem dX0_read_71 : decode cX0_read 71 = .ok (.imul, 1) := dk_104 (dk_at dksX0_read_2 23 rfl rfl)
theorem dX0_read_72 : decode cX0_read 72 = .ok (.iadd, 1) := dk_96 (dk_at dksX0_read_3 0 rfl rfl)
theorem dX0_read_73 : decode cX0_read 73 = .ok (.iconst 1, 1) := dk_4 (dk_at dksX0_read_3 1 rfl rfl)
theorem dX0_read_74 : decode cX0_read 74 = .ok (.iadd, 1) := dk_96 (dk_at dksX0_read_3 2 rfl rfl)
theorem dX0_read_75 : decode cX0_read 75 = .ok (.invokevirtual 311, 3) := dk_182 1 55 (dk_at dksX0_read_3 3 rfl rfl)
theorem dX0_read_78 : decode cX0_read 78 = .ok (.invokevirtual 315, 3) := dk_182 1 59 (dk_at dksX0_read_3 6 rfl rfl)
theorem dX0_read_81 : decode cX0_read 81 = .ok (.ifCond .ge 20, 3) := dk_156 0 20 (dk_at dksX0_read_3 9 rfl rfl)
theorem dX0_read_84 : decode cX0_read 84 = .ok (.aload_n 0, 1) := dk_42 (dk_at dksX0_read_3 12 rfl rfl)
theorem dX0_read_85 : decode cX0_read 85 = .ok (.getfield 107, 3) := dk_180 0 107 (dk_at dksX0_read_3 13 rfl rfl)
theorem dX0_read_88 : decode cX0_read 88 = .ok (.aload_n 0, 1) := dk_42 (dk_at dksX0_read_3 16 rfl rfl)
theorem dX0_read_89 : decode cX0_read 89 = .ok (.getfield 111, 3) := dk_180 0 111 (dk_at dksX0_read_3 17 rfl rfl)
theorem dX0_read_92 : decode cX0_read 92 = .ok (.invokevirtual 158, 3) := dk_182 0 158 (dk_at dksX0_read_3 20 rfl rfl)
theorem dX0_read_95 : decode cX0_read 95 = .ok (.bipush (-20), 2) := dk_16 236 (dk_at dksX0_read_4 0 rfl rfl)
theorem dX0_read_97 : decode cX0_read 97 = .ok (.iload 6, 2) := dk_21 6 (dk_at dksX0_read_4 2 rfl rfl)
theorem dX0_read_99 : decode cX0_read 99 = .ok (.isub, 1) := dk_100 (dk_at dksX0_read_4 4 rfl rfl)
theorem dX0_read_100 : decode cX0_read 100 = .ok (.ireturn, 1) := dk_172 (dk_at dksX0_read_4 5 rfl rfl)
theorem dX0_read_101 : decode cX0_read 101 = .ok (.iinc 6 1, 3) := dk_132 6 1 (dk_at dksX0_read_4 6 rfl rfl)
theorem dX0_read_104 : decode cX0_read 104 = .ok (.goto (-64), 3) := dk_167 255 192 (dk_at dksX0_read_4 9 rfl rfl)
theorem dX0_read_107 : decode cX0_read 107 = .ok (.goto 24, 3) := dk_167 0 24 (dk_at dksX0_read_4 12 rfl rfl)
theorem dX0_read_110 : decode cX0_read 110 = .ok (.astore 7, 2) := dk_58 7 (dk_at dksX0_read_4 15 rfl rfl)
theorem dX0_read_112 : decode cX0_read 112 = .ok (.iconst 1, 1) := dk_4 (dk_at dksX0_read_4 17 rfl rfl)
theorem dX0_read_113 : decode cX0_read 113 = .ok (.istore 5, 2) := dk_54 5 (dk_at dksX0_read_4 18 rfl rfl)
theorem dX0_read_115 : decode cX0_read 115 = .ok (.goto 16, 3) := dk_167 0 16 (dk_at dksX0_read_4 20 rfl rfl)
theorem dX0_read_118 : decode cX0_read 118 = .ok (.astore 7, 2) := dk_58 7 (dk_at dksX0_read_5 0 rfl rfl)
theorem dX0_read_120 : decode cX0_read 120 = .ok (.iconst 3, 1) := dk_6 (dk_at dksX0_read_5 2 rfl rfl)
theorem dX0_read_121 : decode cX0_read 121 = .ok (.istore 5, 2) := dk_54 5 (dk_at dksX0_read_5 3 rfl rfl)
theorem dX0_read_123 : decode cX0_read 123 = .ok (.goto 8, 3) := dk_167 0 8 (dk_at dksX0_read_5 5 rfl rfl)
theorem dX0_read_126 : decode cX0_read 126 = .ok (.astore 7, 2) := dk_58 7 (dk_at dksX0_read_5 8 rfl rfl)
theorem dX0_read_128 : decode cX0_read 128 = .ok (.iconst 2, 1) := dk_5 (dk_at dksX0_read_5 10 rfl rfl)
theorem dX0_read_129 : decode cX0_read 129 = .ok (.istore 5, 2) := dk_54 5 (dk_at dksX0_read_5 11 rfl rfl)
theorem dX0_read_131 : decode cX0_read 131 = .ok (.aload_n 0, 1) := dk_42 (dk_at dksX0_read_5 13 rfl rfl)
theorem dX0_read_132 : decode cX0_read 132 = .ok (.iload 5, 2) := dk_21 5 (dk_at dksX0_read_5 14 rfl rfl)
theorem dX0_read_134 : decode cX0_read 134 = .ok (.putfield 320, 3) := dk_181 1 64 (dk_at dksX0_read_5 16 rfl rfl)
theorem dX0_read_137 : decode cX0_read 137 = .ok (.iload 6, 2) := dk_21 6 (dk_at dksX0_read_5 19 rfl rfl)
theorem dX0_read_139 : decode cX0_read 139 = .ok (.ireturn, 1) := dk_172 (dk_at dksX0_read_5 21 rfl rfl)
def dkwX0_takenOf_2 : List UInt8 := [46, 172]
abbrev dktX0_takenOf_2 : List UInt8 := dkwX0_takenOf_2 ++ []
def dkwX0_takenOf_1 : List UInt8 := [167, 0, 25, 28, 4, 160, 0, 13, 25, 4, 192, 1, 48, 29, 53, 167, 0, 10, 25, 4, 192, 1, 50, 29]
abbrev dktX0_takenOf_1 : List UInt8 := dkwX0_takenOf_1 ++ dktX0_takenOf_2
def dkwX0_takenOf_0 : List UInt8 := [42, 180, 0, 129, 27, 50, 180, 1, 41, 58, 4, 28, 154, 0, 13, 25, 4, 192, 1, 47, 29, 51]
abbrev dktX0_takenOf_0 : List UInt8 := dkwX0_takenOf_0 ++ dktX0_takenOf_1
theorem dksX0_takenOf_0 : cX0_takenOf.data.toList.drop 0 = dktX0_takenOf_0 := by decide +kernel
theorem dksX0_takenOf_1 : cX0_takenOf.data.toList.drop 22 = dktX0_takenOf_1 := dk_seg dksX0_takenOf_0 22 rfl rfl
theorem dksX0_takenOf_2 : cX0_takenOf.data.toList.drop 46 = dktX0_takenOf_2 := dk_seg dksX0_takenOf_1 24 rfl rfl
theorem dX0_takenOf_0 : decode cX0_takenOf 0 = .ok (.aload_n 0, 1) := dk_42 (dk_at dksX0_takenOf_0 0 rfl rfl)
theorem dX0_takenOf_1 : decode cX0_takenOf 1 = .ok (.getfield 129, 3) := dk_180 0 129 (dk_at dksX0_takenOf_0 1 rfl rfl)
theorem dX0_takenOf_4 : decode cX0_takenOf 4 = .ok (.iload_n 1, 1) := dk_27 (dk_at dksX0_takenOf_0 4 rfl rfl)
theorem dX0_takenOf_5 : decode cX0_takenOf 5 = .ok (.aaload, 1) := dk_50 (dk_at dksX0_takenOf_0 5 rfl rfl)
theorem dX0_takenOf_6 : decode cX0_takenOf 6 = .ok (.getfield 297, 3) := dk_180 1 41 (dk_at dksX0_takenOf_0 6 rfl rfl)
theorem dX0_takenOf_9 : decode cX0_takenOf 9 = .ok (.astore 4, 2) := dk_58 4 (dk_at dksX0_takenOf_0 9 rfl rfl)
theorem dX0_takenOf_11 : decode cX0_takenOf 11 = .ok (.iload_n 2, 1) := dk_28 (dk_at dksX0_takenOf_0 11 rfl rfl)
theorem dX0_takenOf_12 : decode cX0_takenOf 12 = .ok (.ifCond .ne 13, 3) := dk_154 0 13 (dk_at dksX0_takenOf_0 12 rfl rfl)
theorem dX0_takenOf_15 : decode cX0_takenOf 15 = .ok (.aload 4, 2) := dk_25 4 (dk_at dksX0_takenOf_0 15 rfl rfl)
theorem dX0_takenOf_17 : decode cX0_takenOf 17 = .ok (.checkcast 303, 3) := dk_192 1 47 (dk_at dksX0_takenOf_0 17 rfl rfl)
theorem dX0_takenOf_20 : decode cX0_takenOf 20 = .ok (.iload_n 3, 1) := dk_29 (dk_at dksX0_takenOf_0 20 rfl rfl)
theorem dX0_takenOf_21 : decode cX0_takenOf 21 = .ok (.baload, 1) := dk_51 (dk_at dksX0_takenOf_0 21 rfl rfl)
theorem dX0_takenOf_22 : decode cX0_takenOf 22 = .ok (.goto 25, 3) := dk_167 0 25 (dk_at dksX0_takenOf_1 0 rfl rfl)
theorem dX0_takenOf_25 : decode cX0_takenOf 25 = .ok (.iload_n 2, 1) := dk_28 (dk_at dksX0_takenOf_1 3 rfl rfl)
theorem dX0_takenOf_26 : decode cX0_takenOf 26 = .ok (.iconst 1, 1) := dk_4 (dk_at dksX0_takenOf_1 4 rfl rfl)
theorem dX0_takenOf_27 : decode cX0_takenOf 27 = .ok (.if_icmp .ne 13, 3) := dk_160 0 13 (dk_at dksX0_takenOf_1 5 rfl rfl)
theorem dX0_takenOf_30 : decode cX0_takenOf 30 = .ok (.aload 4, 2) := dk_25 4 (dk_at dksX0_takenOf_1 8 rfl rfl)
theorem dX0_takenOf_32 : decode cX0_takenOf 32 = .ok (.checkcast 304, 3) := dk_192 1 48 (dk_at dksX0_takenOf_1 10 rfl rfl)
theorem dX0_takenOf_35 : decode cX0_takenOf 35 = .ok (.iload_n 3, 1) := dk_29 (dk_at dksX0_takenOf_1 13 rfl rfl)
theorem dX0_takenOf_36 : decode cX0_takenOf 36 = .ok (.saload, 1) := dk_53 (dk_at dksX0_takenOf_1 14 rfl rfl)
theorem dX0_takenOf_37 : decode cX0_takenOf 37 = .ok (.goto 10, 3) := dk_167 0 10 (dk_at dksX0_takenOf_1 15 rfl rfl)
theorem dX0_takenOf_40 : decode cX0_takenOf 40 = .ok (.aload 4, 2) := dk_25 4 (dk_at dksX0_takenOf_1 18 rfl rfl)
theorem dX0_takenOf_42 : decode cX0_takenOf 42 = .ok (.checkcast 306, 3) := dk_192 1 50 (dk_at dksX0_takenOf_1 20 rfl rfl)
theorem dX0_takenOf_45 : decode cX0_takenOf 45 = .ok (.iload_n 3, 1) := dk_29 (dk_at dksX0_takenOf_1 23 rfl rfl)
theorem dX0_takenOf_46 : decode cX0_takenOf 46 = .ok (.iaload, 1) := dk_46 (dk_at dksX0_takenOf_2 0 rfl rfl)
theorem dX0_takenOf_47 : decode cX0_takenOf 47 = .ok (.ireturn, 1) := dk_172 (dk_at dksX0_takenOf_2 1 rfl rfl)
theorem dX0_torn_0 : decode cX0_torn 0 = .ok (.aload_n 0, 1) := by decide +kernel
theorem dX0_torn_1 : decode cX0_torn 1 = .ok (.getfield 320, 3) := by decide +kernel
theorem dX0_torn_4 : decode cX0_torn 4 = .ok (.ireturn, 1) := by decide +kernel
def dkwX0_count_7 : List UInt8 := [182, 0, 193, 184, 0, 238, 172, 21, 4, 172, 2, 172]
abbrev dktX0_count_7 : List UInt8 := dkwX0_count_7 ++ []
def dkwX0_count_6 : List UInt8 := [42, 180, 0, 174, 172, 42, 180, 0, 177, 184, 0, 238, 172, 42, 180, 0, 140, 172, 29, 172, 42, 180, 0, 107]
abbrev dktX0_count_6 : List UInt8 := dkwX0_count_6 ++ dktX0_count_7
def dkwX0_count_5 : List UInt8 := [170, 0, 0, 0, 0, 72, 0, 0, 0, 0, 0, 0, 0, 5, 0, 0, 0, 38, 0, 0, 0, 43, 0, 0, 0, 51, 0, 0, 0, 56, 0, 0, 0, 58, 0, 0, 0, 69]
abbrev dktX0_count_5 : List UInt8 := dkwX0_count_5 ++ dktX0_count_6
def dkwX0_count_4 : List UInt8 := [132, 5, 1, 167, 255, 226, 27]
abbrev dktX0_count_4 : List UInt8 := dkwX0_count_4 ++ dktX0_count_5
def dkwX0_count_3 : List UInt8 := [180, 0, 107, 180, 0, 15, 162, 0, 24, 21, 4, 42, 180, 0, 107, 21, 5, 6, 182, 0, 64, 96, 54, 4]
abbrev dktX0_count_3 : List UInt8 := dkwX0_count_3 ++ dktX0_count_4
def dkwX0_count_2 : List UInt8 := [153, 0, 11, 44, 192, 1, 50, 190, 167, 0, 5, 16, 252, 62, 3, 54, 4, 3, 54, 5, 21, 5, 42]
abbrev dktX0_count_2 : List UInt8 := dkwX0_count_2 ++ dktX0_count_3
def dkwX0_count_1 : List UInt8 := [167, 0, 35, 44, 193, 1, 48, 153, 0, 11, 44, 192, 1, 48, 190, 167, 0, 20, 44, 193, 1, 50]
abbrev dktX0_count_1 : List UInt8 := dkwX0_count_1 ++ dktX0_count_2
def dkwX0_count_0 : List UInt8 := [42, 180, 0, 129, 3, 50, 180, 1, 41, 77, 44, 193, 1, 47, 153, 0, 11, 44, 192, 1, 47, 190]
abbrev dktX0_count_0 : List UInt8 := dkwX0_count_0 ++ dktX0_count_1
theorem dksX0_count_0 : cX0_count.data.toList.drop 0 = dktX0_count_0 := by decide +kernel
theorem dksX0_count_1 : cX0_count.data.toList.drop 22 = dktX0_count_1 := dk_seg dksX0_count_0 22 rfl rfl
theorem dksX0_count_2 : cX0_count.data.toList.drop 44 = dktX0_count_2 := dk_seg dksX0_count_1 22 rfl rfl
theorem dksX0_count_3 : cX0_count.data.toList.drop 67 = dktX0_count_3 := dk_seg dksX0_count_2 23 rfl rfl
theorem dksX0_count_4 : cX0_count.data.toList.drop 91 = dktX0_count_4 := dk_seg dksX0_count_3 24 rfl rfl
theorem dksX0_count_5 : cX0_count.data.toList.drop 98 = dktX0_count_5 := dk_seg dksX0_count_4 7 rfl rfl
theorem dksX0_count_6 : cX0_count.data.toList.drop 136 = dktX0_count_6 := dk_seg dksX0_count_5 38 rfl rfl
theorem dksX0_count_7 : cX0_count.data.toList.drop 160 = dktX0_count_7 := dk_seg dksX0_count_6 24 rfl rfl
theorem dX0_count_0 : decode cX0_count 0 = .ok (.aload_n 0, 1) := dk_42 (dk_at dksX0_count_0 0 rfl rfl)
theorem dX0_count_1 : decode cX0_count 1 = .ok (.getfield 129, 3) := dk_180 0 129 (dk_at dksX0_count_0 1 rfl rfl)
theorem dX0_count_4 : decode cX0_count 4 = .ok (.iconst 0, 1) := dk_3 (dk_at dksX0_count_0 4 rfl rfl)
theorem dX0_count_5 : decode cX0_count 5 = .ok (.aaload, 1) := dk_50 (dk_at dksX0_count_0 5 rfl rfl)
theorem dX0_count_6 : decode cX0_count 6 = .ok (.getfield 297, 3) := dk_180 1 41 (dk_at dksX0_count_0 6 rfl rfl)
theorem dX0_count_9 : decode cX0_count 9 = .ok (.astore_n 2, 1) := dk_77 (dk_at dksX0_count_0 9 rfl rfl)
theorem dX0_count_10 : decode cX0_count 10 = .ok (.aload_n 2, 1) := dk_44 (dk_at dksX0_count_0 10 rfl rfl)
theorem dX0_count_11 : decode cX0_count 11 = .ok (.instanceof 303, 3) := dk_193 1 47 (dk_at dksX0_count_0 11 rfl rfl)
theorem dX0_count_14 : decode cX0_count 14 = .ok (.ifCond .eq 11, 3) := dk_153 0 11 (dk_at dksX0_count_0 14 rfl rfl)
theorem dX0_count_17 : decode cX0_count 17 = .ok (.aload_n 2, 1) := dk_44 (dk_at dksX0_count_0 17 rfl rfl)
theorem dX0_count_18 : decode cX0_count 18 = .ok (.checkcast 303, 3) := dk_192 1 47 (dk_at dksX0_count_0 18 rfl rfl)
theorem dX0_count_21 : decode cX0_count 21 = .ok (.arraylength, 1) := dk_190 (dk_at dksX0_count_0 21 rfl rfl)
theorem dX0_count_22 : decode cX0_count 22 = .ok (.goto 35, 3) := dk_167 0 35 (dk_at dksX0_count_1 0 rfl rfl)
theorem dX0_count_25 : decode cX0_count 25 = .ok (.aload_n 2, 1) := dk_44 (dk_at dksX0_count_1 3 rfl rfl)
theorem dX0_count_26 : decode cX0_count 26 = .ok (.instanceof 304, 3) := dk_193 1 48 (dk_at dksX0_count_1 4 rfl rfl)
theorem dX0_count_29 : decode cX0_count 29 = .ok (.ifCond .eq 11, 3) := dk_153 0 11 (dk_at dksX0_count_1 7 rfl rfl)
theorem dX0_count_32 : decode cX0_count 32 = .ok (.aload_n 2, 1) := dk_44 (dk_at dksX0_count_1 10 rfl rfl)
theorem dX0_count_33 : decode cX0_count 33 = .ok (.checkcast 304, 3) := dk_192 1 48 (dk_at dksX0_count_1 11 rfl rfl)
theorem dX0_count_36 : decode cX0_count 36 = .ok (.arraylength, 1) := dk_190 (dk_at dksX0_count_1 14 rfl rfl)
theorem dX0_count_37 : decode cX0_count 37 = .ok (.goto 20, 3) := dk_167 0 20 (dk_at dksX0_count_1 15 rfl rfl)
theorem dX0_count_40 : decode cX0_count 40 = .ok (.aload_n 2, 1) := dk_44 (dk_at dksX0_count_1 18 rfl rfl)
theorem dX0_count_41 : decode cX0_count 41 = .ok (.instanceof 306, 3) := dk_193 1 50 (dk_at dksX0_count_1 19 rfl rfl)
theorem dX0_count_44 : decode cX0_count 44 = .ok (.ifCond .eq 11, 3) := dk_153 0 11 (dk_at dksX0_count_2 0 rfl rfl)
theorem dX0_count_47 : decode cX0_count 47 = .ok (.aload_n 2, 1) := dk_44 (dk_at dksX0_count_2 3 rfl rfl)
theorem dX0_count_48 : decode cX0_count 48 = .ok (.checkcast 306, 3) := dk_192 1 50 (dk_at dksX0_count_2 4 rfl rfl)
theorem dX0_count_51 : decode cX0_count 51 = .ok (.arraylength, 1) := dk_190 (dk_at dksX0_count_2 7 rfl rfl)
theorem dX0_count_52 : decode cX0_count 52 = .ok (.goto 5, 3) := dk_167 0 5 (dk_at dksX0_count_2 8 rfl rfl)
theorem dX0_count_55 : decode cX0_count 55 = .ok (.bipush (-4), 2) := dk_16 252 (dk_at dksX0_count_2 11 rfl rfl)
theorem dX0_count_57 : decode cX0_count 57 = .ok (.istore_n 3, 1) := dk_62 (dk_at dksX0_count_2 13 rfl rfl)
theorem dX0_count_58 : decode cX0_count 58 = .ok (.iconst 0, 1) := dk_3 (dk_at dksX0_count_2 14 rfl rfl)
theorem dX0_count_59 : decode cX0_count 59 = .ok (.istore 4, 2) := dk_54 4 (dk_at dksX0_count_2 15 rfl rfl)
theorem dX0_count_61 : decode cX0_count 61 = .ok (.iconst 0, 1) := dk_3 (dk_at dksX0_count_2 17 rfl rfl)
theorem dX0_count_62 : decode cX0_count 62 = .ok (.istore 5, 2) := dk_54 5 (dk_at dksX0_count_2 18 rfl rfl)
theorem dX0_count_64 : decode cX0_count 64 = .ok (.iload 5, 2) := dk_21 5 (dk_at dksX0_count_2 20 rfl rfl)
theorem dX0_count_66 : decode cX0_count 66 = .ok (.aload_n 0, 1) := dk_42 (dk_at dksX0_count_2 22 rfl rfl)
theorem dX0_count_67 : decode cX0_count 67 = .ok (.getfield 107, 3) := dk_180 0 107 (dk_at dksX0_count_3 0 rfl rfl)
theorem dX0_count_70 : decode cX0_count 70 = .ok (.getfield 15, 3) := dk_180 0 15 (dk_at dksX0_count_3 3 rfl rfl)
theorem dX0_count_73 : decode cX0_count 73 = .ok (.if_icmp .ge 24, 3) := dk_162 0 24 (dk_at dksX0_count_3 6 rfl rfl)
theorem dX0_count_76 : decode cX0_count 76 = .ok (.iload 4, 2) := dk_21 4 (dk_at dksX0_count_3 9 rfl rfl)
theorem dX0_count_78 : decode cX0_count 78 = .ok (.aload_n 0, 1) := dk_42 (dk_at dksX0_count_3 11 rfl rfl)
theorem dX0_count_79 : decode cX0_count 79 = .ok (.getfield 107, 3) := dk_180 0 107 (dk_at dksX0_count_3 12 rfl rfl)
theorem dX0_count_82 : decode cX0_count 82 = .ok (.iload 5, 2) := dk_21 5 (dk_at dksX0_count_3 15 rfl rfl)
theorem dX0_count_84 : decode cX0_count 84 = .ok (.iconst 3, 1) := dk_6 (dk_at dksX0_count_3 17 rfl rfl)
theorem dX0_count_85 : decode cX0_count 85 = .ok (.invokevirtual 64, 3) := dk_182 0 64 (dk_at dksX0_count_3 18 rfl rfl)
theorem dX0_count_88 : decode cX0_count 88 = .ok (.iadd, 1) := dk_96 (dk_at dksX0_count_3 21 rfl rfl)
theorem dX0_count_89 : decode cX0_count 89 = .ok (.istore 4, 2) := dk_54 4 (dk_at dksX0_count_3 22 rfl rfl)
theorem dX0_count_91 : decode cX0_count 91 = .ok (.iinc 5 1, 3) := dk_132 5 1 (dk_at dksX0_count_4 0 rfl rfl)
theorem dX0_count_94 : decode cX0_count 94 = .ok (.goto (-30), 3) := dk_167 255 226 (dk_at dksX0_count_4 3 rfl rfl)
theorem dX0_count_97 : decode cX0_count 97 = .ok (.iload_n 1, 1) := dk_27 (dk_at dksX0_count_4 6 rfl rfl)
theorem dX0_count_98 : decode cX0_count 98 = .ok (.tableswitch 72 0 5 #[38, 43, 51, 56, 58, 69], 38) := by decide +kernel
theorem dX0_count_136 : decode cX0_count 136 = .ok (.aload_n 0, 1) := dk_42 (dk_at dksX0_count_6 0 rfl rfl)
theorem dX0_count_137 : decode cX0_count 137 = .ok (.getfield 174, 3) := dk_180 0 174 (dk_at dksX0_count_6 1 rfl rfl)
theorem dX0_count_140 : decode cX0_count 140 = .ok (.ireturn, 1) := dk_172 (dk_at dksX0_count_6 4 rfl rfl)
theorem dX0_count_141 : decode cX0_count 141 = .ok (.aload_n 0, 1) := dk_42 (dk_at dksX0_count_6 5 rfl rfl)
theorem dX0_count_142 : decode cX0_count 142 = .ok (.getfield 177, 3) := dk_180 0 177 (dk_at dksX0_count_6 6 rfl rfl)
theorem dX0_count_145 : decode cX0_count 145 = .ok (.invokestatic 238, 3) := dk_184 0 238 (dk_at dksX0_count_6 9 rfl rfl)
theorem dX0_count_148 : decode cX0_count 148 = .ok (.ireturn, 1) := dk_172 (dk_at dksX0_count_6 12 rfl rfl)
theorem dX0_count_149 : decode cX0_count 149 = .ok (.aload_n 0, 1) := dk_42 (dk_at dksX0_count_6 13 rfl rfl)
theorem dX0_count_150 : decode cX0_count 150 = .ok (.getfield 140, 3) := dk_180 0 140 (dk_at dksX0_count_6 14 rfl rfl)
theorem dX0_count_153 : decode cX0_count 153 = .ok (.ireturn, 1) := dk_172 (dk_at dksX0_count_6 17 rfl rfl)
theorem dX0_count_154 : decode cX0_count 154 = .ok (.iload_n 3, 1) := dk_29 (dk_at dksX0_count_6 18 rfl rfl)
theorem dX0_count_155 : decode cX0_count 155 = .ok (.ireturn, 1) := dk_172 (dk_at dksX0_count_6 19 rfl rfl)
theorem dX0_count_156 : decode cX0_count 156 = .ok (.aload_n 0, 1) := dk_42 (dk_at dksX0_count_6 20 rfl rfl)
theorem dX0_count_157 : decode cX0_count 157 = .ok (.getfield 107, 3) := dk_180 0 107 (dk_at dksX0_count_6 21 rfl rfl)
theorem dX0_count_160 : decode cX0_count 160 = .ok (.invokevirtual 193, 3) := dk_182 0 193 (dk_at dksX0_count_7 0 rfl rfl)
theorem dX0_count_163 : decode cX0_count 163 = .ok (.invokestatic 238, 3) := dk_184 0 238 (dk_at dksX0_count_7 3 rfl rfl)
theorem dX0_count_166 : decode cX0_count 166 = .ok (.ireturn, 1) := dk_172 (dk_at dksX0_count_7 6 rfl rfl)
theorem dX0_count_167 : decode cX0_count 167 = .ok (.iload 4, 2) := dk_21 4 (dk_at dksX0_count_7 7 rfl rfl)
theorem dX0_count_169 : decode cX0_count 169 = .ok (.ireturn, 1) := dk_172 (dk_at dksX0_count_7 9 rfl rfl)
theorem dX0_count_170 : decode cX0_count 170 = .ok (.iconst (-1), 1) := dk_2 (dk_at dksX0_count_7 10 rfl rfl)
theorem dX0_count_171 : decode cX0_count 171 = .ok (.ireturn, 1) := dk_172 (dk_at dksX0_count_7 11 rfl rfl)
