set_option maxRecDepth 100000
def dkwX1_init_9 : List UInt8 := [181, 0, 82, 42, 16, 20, 181, 0, 86, 177]
abbrev dktX1_init_9 : List UInt8 := dkwX1_init_9 ++ []
def dkwX1_init_8 : List UInt8 := [181, 0, 72, 42, 16, 20, 188, 11, 181, 0, 75, 42, 16, 20, 188, 11, 181, 0, 79, 42, 16, 48, 188, 4]
abbrev dktX1_init_8 : List UInt8 := dkwX1_init_8 ++ dktX1_init_9
def dkwX1_init_7 : List UInt8 := [42, 16, 40, 188, 10, 181, 0, 66, 42, 17, 0, 200, 188, 10, 181, 0, 69, 42, 16, 20, 188, 10]
abbrev dktX1_init_7 : List UInt8 := dkwX1_init_7 ++ dktX1_init_8
def dkwX1_init_6 : List UInt8 := [17, 0, 200, 188, 10, 181, 0, 57, 42, 16, 20, 188, 10, 181, 0, 60, 42, 16, 40, 188, 10, 181, 0, 63]
abbrev dktX1_init_6 : List UInt8 := dkwX1_init_6 ++ dktX1_init_7
def dkwX1_init_5 : List UInt8 := [181, 0, 48, 42, 17, 0, 200, 188, 10, 181, 0, 51, 42, 17, 0, 200, 188, 10, 181, 0, 54, 42]
abbrev dktX1_init_5 : List UInt8 := dkwX1_init_5 ++ dktX1_init_6
def dkwX1_init_4 : List UInt8 := [16, 16, 188, 10, 181, 0, 42, 42, 17, 0, 200, 188, 10, 181, 0, 45, 42, 17, 0, 200, 188, 10]
abbrev dktX1_init_4 : List UInt8 := dkwX1_init_4 ++ dktX1_init_5
def dkwX1_init_3 : List UInt8 := [183, 0, 11, 181, 0, 32, 42, 16, 16, 188, 10, 181, 0, 35, 42, 16, 16, 188, 10, 181, 0, 39, 42]
abbrev dktX1_init_3 : List UInt8 := dkwX1_init_3 ++ dktX1_init_4
def dkwX1_init_2 : List UInt8 := [183, 0, 11, 181, 0, 26, 42, 187, 0, 9, 89, 7, 183, 0, 11, 181, 0, 29, 42, 187, 0, 9, 89, 7]
abbrev dktX1_init_2 : List UInt8 := dkwX1_init_2 ++ dktX1_init_3
def dkwX1_init_1 : List UInt8 := [183, 0, 11, 181, 0, 20, 42, 187, 0, 9, 89, 7, 183, 0, 11, 181, 0, 23, 42, 187, 0, 9, 89, 7]
abbrev dktX1_init_1 : List UInt8 := dkwX1_init_1 ++ dktX1_init_2
def dkwX1_init_0 : List UInt8 := [42, 183, 0, 3, 42, 187, 0, 9, 89, 7, 183, 0, 11, 181, 0, 14, 42, 187, 0, 9, 89, 16, 8]
abbrev dktX1_init_0 : List UInt8 := dkwX1_init_0 ++ dktX1_init_1
theorem dksX1_init_0 : cX1_init.data.toList.drop 0 = dktX1_init_0 := by decide +kernel
theorem dksX1_init_1 : cX1_init.data.toList.drop 23 = dktX1_init_1 := dk_seg dksX1_init_0 23 rfl rfl
theorem dksX1_init_2 : cX1_init.data.toList.drop 47 = dktX1_init_2 := dk_seg dksX1_init_1 24 rfl rfl
theorem dksX1_init_3 : cX1_init.data.toList.drop 71 = dktX1_init_3 := dk_seg dksX1_init_2 24 rfl rfl
theorem dksX1_init_4 : cX1_init.data.toList.drop 94 = dktX1_init_4 := dk_seg dksX1_init_3 23 rfl rfl
theorem dksX1_init_5 : cX1_init.data.toList.drop 116 = dktX1_init_5 := dk_seg dksX1_init_4 22 rfl rfl
theorem dksX1_init_6 : cX1_init.data.toList.drop 138 = dktX1_init_6 := dk_seg dksX1_init_5 22 rfl rfl
theorem dksX1_init_7 : cX1_init.data.toList.drop 162 = dktX1_init_7 := dk_seg dksX1_init_6 24 rfl rfl
theorem dksX1_init_8 : cX1_init.data.toList.drop 184 = dktX1_init_8 := dk_seg dksX1_init_7 22 rfl rfl
theorem dksX1_init_9 : cX1_init.data.toList.drop 208 = dktX1_init_9 := dk_seg dksX1_init_8 24 rfl rfl
theorem dX1_init_0 : decode cX1_init 0 = .ok (.aload_n 0, 1) := dk_42 (dk_at dksX1_init_0 0 rfl rfl)
theorem dX1_init_1 : decode cX1_init 1 = .ok (.invokespecial 3, 3) := dk_183 0 3 (dk_at dksX1_init_0 1 rfl rfl)
theorem dX1_init_4 : decode cX1_init 4 = .ok (.aload_n 0, 1) := dk_42 (dk_at dksX1_init_0 4 rfl rfl)
theorem dX1_init_5 : decode cX1_init 5 = .ok (.new 9, 3) := dk_187 0 9 (dk_at dksX1_init_0 5 rfl rfl)
theorem dX1_init_8 : decode cX1_init 8 = .ok (.dup, 1) := dk_89 (dk_at dksX1_init_0 8 rfl rfl)
theorem dX1_init_9 : decode cX1_init 9 = .ok (.iconst 4, 1) := dk_7 (dk_at dksX1_init_0 9 rfl rfl)
theorem dX1_init_10 : decode cX1_init 10 = .ok (.invokespecial 11, 3) := dk_183 0 11 (dk_at dksX1_init_0 10 rfl rfl)
theorem dX1_init_13 : decode cX1_init 13 = .ok (.putfield 14, 3) := dk_181 0 14 (dk_at dksX1_init_0 13 rfl rfl)
theorem dX1_init_16 : decode cX1_init 16 = .ok (.aload_n 0, 1) := dk_42 (dk_at dksX1_init_0 16 rfl rfl)
theorem dX1_init_17 : decode cX1_init 17 = .ok (.new 9, 3) := dk_187 0 9 (dk_at dksX1_init_0 17 rfl rfl)
theorem dX1_init_20 : decode cX1_init 20 = .ok (.dup, 1) := dk_89 (dk_at dksX1_init_0 20 rfl rfl)
theorem dX1_init_21 : decode cX1_init 21 = .ok (.bipush 8, 2) := dk_16 8 (dk_at dksX1_init_0 21 rfl rfl)
theorem dX1_init_23 : decode cX1_init 23 = .ok (.invokespecial 11, 3) := dk_183 0 11 (dk_at dksX1_init_1 0 rfl rfl)
theorem dX1_init_26 : decode cX1_init 26 = .ok (.putfield 20, 3) := dk_181 0 20 (dk_at dksX1_init_1 3 rfl rfl)
theorem dX1_init_29 : decode cX1_init 29 = .ok (.aload_n 0, 1) := dk_42 (dk_at dksX1_init_1 6 rfl rfl)
theorem dX1_init_30 : decode cX1_init 30 = .ok (.new 9, 3) := dk_187 0 9 (dk_at dksX1_init_1 7 rfl rfl)
theorem dX1_init_33 : decode cX1_init 33 = .ok (.dup, 1) := dk_89 (dk_at dksX1_init_1 10 rfl rfl)
theorem dX1_init_34 : decode cX1_init 34 = .ok (.iconst 4, 1) := dk_7 (dk_at dksX1_init_1 11 rfl rfl)
theorem dX1_init_35 : decode cX1_init 35 = .ok (.invokespecial 11, 3) := dk_183 0 11 (dk_at dksX1_init_1 12 rfl rfl)
theorem dX1_init_38 : decode cX1_init 38 = .ok (.putfield 23, 3) := dk_181 0 23 (dk_at dksX1_init_1 15 rfl rfl)
theorem dX1_init_41 : decode cX1_init 41 = .ok (.aload_n 0, 1) := dk_42 (dk_at dksX1_init_1 18 rfl rfl)
theorem dX1_init_42 : decode cX1_init 42 = .ok (.new 9, 3) := dk_187 0 9 (dk_at dksX1_init_1 19 rfl rfl)
theorem dX1_init_45 : decode cX1_init 45 = .ok (.dup, 1) := dk_89 (dk_at dksX1_init_1 22 rfl rfl)
theorem dX1_init_46 : decode cX1_init 46 = .ok (.iconst 4, 1) := dk_7 (dk_at dksX1_init_1 23 rfl rfl)
theorem dX1_init_47 : decode cX1_init 47 = .ok (.invokespecial 11, 3) := dk_183 0 11 (dk_at dksX1_init_2 0 rfl rfl)
theorem dX1_init_50 : decode cX1_init 50 = .ok (.putfield 26, 3) := dk_181 0 26 (dk_at dksX1_init_2 3 rfl rfl)
theorem dX1_init_53 : decode cX1_init 53 = .ok (.aload_n 0, 1) := dk_42 (dk_at dksX1_init_2 6 rfl rfl)
theorem dX1_init_54 : decode cX1_init 54 = .ok (.new 9, 3) := dk_187 0 9 (dk_at dksX1_init_2 7 rfl rfl)
theorem dX1_init_57 : decode cX1_init 57 = .ok (.dup, 1) := dk_89 (dk_at dksX1_init_2 10 rfl rfl)
theorem dX1_init_58 : decode cX1_init 58 = .ok (.iconst 4, 1) := dk_7 (dk_at dksX1_init_2 11 rfl rfl)
theorem dX1_init_59 : decode cX1_init 59 = .ok (.invokespecial 11, 3) := dk_183 0 11 (dk_at dksX1_init_2 12 rfl rfl)
theorem dX1_init_62 : decode cX1_init 62 = .ok (.putfield 29, 3) := dk_181 0 29 (dk_at dksX1_init_2 15 rfl rfl)
theorem dX1_init_65 : decode cX1_init 65 = .ok (.aload_n 0, 1) := dk_42 (dk_at dksX1_init_2 18 rfl rfl)
theorem dX1_init_66 : decode cX1_init 66 = .ok (.new 9, 3) := dk_187 0 9 (dk_at dksX1_init_2 19 rfl rfl)
theorem dX1_init_69 : decode cX1_init 69 = .ok (.dup, 1) := dk_89 (dk_at dksX1_init_2 22 rfl rfl)
theorem dX1_init_70 : decode cX1_init 70 = .ok (.iconst 4, 1) := dk_7 (dk_at dksX1_init_2 23 rfl rfl)
theorem dX1_init_71 : decode cX1_init 71 = .ok (.invokespecial 11, 3) := dk_183 0 11 (dk_at dksX1_init_3 0 rfl rfl)
theorem dX1_init_74 : decode cX1_init 74 = .ok (.putfield 32, 3) := dk_181 0 32 (dk_at dksX1_init_3 3 rfl rfl)
theorem dX1_init_77 : decode cX1_init 77 = .ok (.aload_n 0, 1) := dk_42 (dk_at dksX1_init_3 6 rfl rfl)
theorem dX1_init_78 : decode cX1_init 78 = .ok (.bipush 16, 2) := dk_16 16 (dk_at dksX1_init_3 7 rfl rfl)
theorem dX1_init_80 : decode cX1_init 80 = .ok (.newarray .int, 2) := dk_188_10 (dk_at dksX1_init_3 9 rfl rfl)
theorem dX1_init_82 : decode cX1_init 82 = .ok (.putfield 35, 3) := dk_181 0 35 (dk_at dksX1_init_3 11 rfl rfl)
theorem dX1_init_85 : decode cX1_init 85 = .ok (.aload_n 0, 1) := dk_42 (dk_at dksX1_init_3 14 rfl rfl)
theorem dX1_init_86 : decode cX1_init 86 = .ok (.bipush 16, 2) := dk_16 16 (dk_at dksX1_init_3 15 rfl rfl)
theorem dX1_init_88 : decode cX1_init 88 = .ok (.newarray .int, 2) := dk_188_10 (dk_at dksX1_init_3 17 rfl rfl)
theorem dX1_init_90 : decode cX1_init 90 = .ok (.putfield 39, 3) := dk_181 0 39 (dk_at dksX1_init_3 19 rfl rfl)
theorem dX1_init_93 : decode cX1_init 93 = .ok (.aload_n 0, 1) := dk_42 (dk_at dksX1_init_3 22 rfl rfl)
theorem dX1_init_94 : decode cX1_init 94 = .ok (.bipush 16, 2) := dk_16 16 (dk_at dksX1_init_4 0 rfl rfl)
theorem dX1_init_96 : decode cX1_init 96 = .ok (.newarray .int, 2) := dk_188_10 (dk_at dksX1_init_4 2 rfl rfl)
theorem dX1_init_98 : decode cX1_init 98 = .ok (.putfield 42, 3) := dk_181 0 42 (dk_at dksX1_init_4 4 rfl rfl)
theorem dX1_init_101 : decode cX1_init 101 = .ok (.aload_n 0, 1) := dk_42 (dk_at dksX1_init_4 7 rfl rfl)
theorem dX1_init_102 : decode cX1_init 102 = .ok (.sipush 200, 3) := dk_17 0 200 (dk_at dksX1_init_4 8 rfl rfl)
theorem dX1_init_105 : decode cX1_init 105 = .ok (.newarray .int, 2) := dk_188_10 (dk_at dksX1_init_4 11 rfl rfl)
theorem dX1_init_107 : decode cX1_init 107 = .ok (.putfield 45, 3) := dk_181 0 45 (dk_at dksX1_init_4 13 rfl rfl)
theorem dX1_init_110 : decode cX1_init 110 = .ok (.aload_n 0, 1) := dk_42 (dk_at dksX1_init_4 16 rfl rfl)
theorem dX1_init_111 : decode cX1_init 111 = .ok (.sipush 200, 3) := dk_17 0 200 (dk_at dksX1_init_4 17 rfl rfl)
theorem dX1_init_114 : decode cX1_init 114 = .ok (.newarray .int, 2) := dk_188_10 (dk_at dksX1_init_4 20 rfl rfl)
theorem dX1_init_116 : decode cX1_init 116 = .ok (.putfield 48, 3) := dk_181 0 48 (dk_at dksX1_init_5 0 rfl rfl)
theorem dX1_init_119 : decode cX1_init 119 = .ok (.aload_n 0, 1) := dk_42 (dk_at dksX1_init_5 3 rfl rfl)
theorem dX1_init_120 : decode cX1_init 120 = .ok (.sipush 200, 3) := dk_17 0 200 (dk_at dksX1_init_5 4 rfl rfl)
theorem dX1_init_123 : decode cX1_init 123 = .ok (.newarray .int, 2) := dk_188_10 (dk_at dksX1_init_5 7 rfl rfl)
theorem dX1_init_125 : decode cX1_init 125 = .ok (.putfield 51, 3) := dk_181 0 51 (dk_at dksX1_init_5 9 rfl rfl)
theorem dX1_init_128 : decode cX1_init 128 = .ok (.aload_n 0, 1) := dk_42 (dk_at dksX1_init_5 12 rfl rfl)
theorem dX1_init_129 : decode cX1_init 129 = .ok (.sipush 200, 3) := dk_17 0 200 (dk_at dksX1_init_5 13 rfl rfl)
theorem dX1_init_132 : decode cX1_init 132 = .ok (.newarray .int, 2) := dk_188_10 (dk_at dksX1_init_5 16 rfl rfl)
theorem dX1_init_134 : decode cX1_init 134 = .ok (.putfield 54, 3) := dk_181 0 54 (dk_at dksX1_init_5 18 rfl rfl)
theorem dX1_init_137 : decode cX1_init 137 = .ok (.aload_n 0, 1) := dk_42 (dk_at dksX1_init_5 21 rfl rfl)
theorem dX1_init_138 : decode cX1_init 138 = .ok (.sipush 200, 3) := dk_17 0 200 (dk_at dksX1_init_6 0 rfl rfl)
theorem dX1_init_141 : decode cX1_init 141 = .ok (.newarray .int, 2) := dk_188_10 (dk_at dksX1_init_6 3 rfl rfl)
theorem dX1_init_143 : decode cX1_init 143 = .ok (.putfield 57, 3) := dk_181 0 57 (dk_at dksX1_init_6 5 rfl rfl)
theorem dX1_init_146 : decode cX1_init 146 = .ok (.aload_n 0, 1) := dk_42 (dk_at dksX1_init_6 8 rfl rfl)
theorem dX1_init_147 : decode cX1_init 147 = .ok (.bipush 20, 2) := dk_16 20 (dk_at dksX1_init_6 9 rfl rfl)
theorem dX1_init_149 : decode cX1_init 149 = .ok (.newarray .int, 2) := dk_188_10 (dk_at dksX1_init_6 11 rfl rfl)
theorem dX1_init_151 : decode cX1_init 151 = .ok (.putfield 60, 3) := dk_181 0 60 (dk_at dksX1_init_6 13 rfl rfl)
theorem dX1_init_154 : decode cX1_init 154 = .ok (.aload_n 0, 1) := dk_42 (dk_at dksX1_init_6 16 rfl rfl)
theorem dX1_init_155 : decode cX1_init 155 = .ok (.bipush 40, 2) := dk_16 40 (dk_at dksX1_init_6 17 rfl rfl)
theorem dX1_init_157 : decode cX1_init 157 = .ok (.newarray .int, 2) := dk_188_10 (dk_at dksX1_init_6 19 rfl rfl)
theorem dX1_init_159 : decode cX1_init 159 = .ok (.putfield 63, 3) := dk_181 0 63 (dk_at dksX1_init_6 21 rfl rfl)
theorem dX1_init_162 : decode cX1_init 162 = .ok (.aload_n 0, 1) := dk_42 (dk_at dksX1_init_7 0 rfl rfl)
theorem dX1_init_163 : decode cX1_init 163 = .ok (.bipush 40, 2) := dk_16 40 (dk_at dksX1_init_7 1 rfl rfl)
theorem dX1_init_165 : decode cX1_init 165 = .ok (.newarray .int, 2) := dk_188_10 (dk_at dksX1_init_7 3 rfl rfl)
theorem dX1_init_167 : decode cX1_init 167 = .ok (.putfield 66, 3) := dk_181 0 66 (dk_at dksX1_init_7 5 rfl rfl)
theorem dX1_init_170 : decode cX1_init 170 = .ok (.aload_n 0, 1) := dk_42 (dk_at dksX1_init_7 8 rfl rfl)
theorem dX1_init_171 : decode cX1_init 171 = .ok (.sipush 200, 3) := dk_17 0 200 (dk_at dksX1_init_7 9 rfl rfl)
theorem dX1_init_174 : decode cX1_init 174 = .ok (.newarray .int, 2) := dk_188_10 (dk_at dksX1_init_7 12 rfl rfl)
theorem dX1_init_176 : decode cX1_init 176 = .ok (.putfield 69, 3) := dk_181 0 69 (dk_at dksX1_init_7 14 rfl rfl)
theorem dX1_init_179 : decode cX1_init 179 = .ok (.aload_n 0, 1) := dk_42 (dk_at dksX1_init_7 17 rfl rfl)
theorem dX1_init_180 : decode cX1_init 180 = .ok (.bipush 20, 2) := dk_16 20 (dk_at dksX1_init_7 18 rfl rfl)
theorem dX1_init_182 : decode cX1_init 182 = .ok (.newarray .int, 2) := dk_188_10 (dk_at dksX1_init_7 20 rfl rfl)
theorem dX1_init_184 : decode cX1_init 184 = .ok (.putfield 72, 3) := dk_181 0 72 (dk_at dksX1_init_8 0 rfl rfl)
theorem dX1_init_187 : decode cX1_init 187 = .ok (.aload_n 0, 1) := dk_42 (dk_at dksX1_init_8 3 rfl rfl)
theorem dX1_init_188 : decode cX1_init 188 = .ok (.bipush 20, 2) := dk_16 20 (dk_at dksX1_init_8 4 rfl rfl)
theorem dX1_init_190 : decode cX1_init 190 = .ok (.newarray .long, 2) := dk_188_11 (dk_at dksX1_init_8 6 rfl rfl)
theorem dX1_init_192 : decode cX1_init 192 = .ok (.putfield 75, 3) := dk_181 0 75 (dk_at dksX1_init_8 8 rfl rfl)
theorem dX1_init_195 : decode cX1_init 195 = .ok (.aload_n 0, 1) := dk_42 (dk_at dksX1_init_8 11 rfl rfl)
theorem dX1_init_196 : decode cX1_init 196 = .ok (.bipush 20, 2) := dk_16 20 (dk_at dksX1_init_8 12 rfl rfl)
theorem dX1_init_198 : decode cX1_init 198 = .ok (.newarray .long, 2) := dk_188_11 (dk_at dksX1_init_8 14 rfl rfl)
theorem dX1_init_200 : decode cX1_init 200 = .ok (.putfield 79, 3) := dk_181 0 79 (dk_at dksX1_init_8 16 rfl rfl)
theorem dX1_init_203 : decode cX1_init 203 = .ok (.aload_n 0, 1) := dk_42 (dk_at dksX1_init_8 19 rfl rfl)
theorem dX1_init_204 : decode cX1_init 204 = .ok (.bipush 48, 2) := dk_16 48 (dk_at dksX1_init_8 20 rfl rfl)
theorem dX1_init_206 : decode cX1_init 206 = .ok (.newarray .boolean, 2) := dk_188_4 (dk_at dksX1_init_8 22 rfl rfl)
theorem dX1_init_208 : decode cX1_init 208 = .ok (.putfield 82, 3) := dk_181 0 82 (dk_at dksX1_init_9 0 rfl rfl)
theorem dX1_init_211 : decode cX1_init 211 = .ok (.aload_n 0, 1) := dk_42 (dk_at dksX1_init_9 3 rfl rfl)
theorem dX1_init_212 : decode cX1_init 212 = .ok (.bipush 20, 2) := dk_16 20 (dk_at dksX1_init_9 4 rfl rfl)
theorem dX1_init_214 : decode cX1_init 214 = .ok (.putfield 86, 3) := dk_181 0 86 (dk_at dksX1_init_9 6 rfl rfl)
theorem dX1_init_217 : decode cX1_init 217 = .ok (.return_, 1) := dk_177 (dk_at dksX1_init_9 9 rfl rfl)
def dkwX1_takes_13 : List UInt8 := [180, 0, 120, 181, 0, 120, 177]
abbrev dktX1_takes_13 : List UInt8 := dkwX1_takes_13 ++ []
def dkwX1_takes_12 : List UInt8 := [180, 0, 114, 181, 0, 114, 42, 43, 180, 0, 117, 181, 0, 117, 42, 43, 180, 0, 86, 181, 0, 86, 42, 43]
abbrev dktX1_takes_12 : List UInt8 := dkwX1_takes_12 ++ dktX1_takes_13
def dkwX1_takes_11 : List UInt8 := [180, 0, 82, 3, 42, 180, 0, 82, 190, 184, 0, 97, 42, 43, 180, 0, 111, 181, 0, 111, 42, 43]
abbrev dktX1_takes_11 : List UInt8 := dkwX1_takes_11 ++ dktX1_takes_12
def dkwX1_takes_10 : List UInt8 := [184, 0, 97, 43, 180, 0, 79, 3, 42, 180, 0, 79, 3, 16, 20, 184, 0, 97, 43, 180, 0, 82, 3, 42]
abbrev dktX1_takes_10 : List UInt8 := dkwX1_takes_10 ++ dktX1_takes_11
def dkwX1_takes_9 : List UInt8 := [180, 0, 72, 43, 180, 0, 72, 184, 0, 107, 43, 180, 0, 75, 3, 42, 180, 0, 75, 3, 16, 20]
abbrev dktX1_takes_9 : List UInt8 := dkwX1_takes_9 ++ dktX1_takes_10
def dkwX1_takes_8 : List UInt8 := [180, 0, 66, 43, 180, 0, 66, 184, 0, 107, 42, 180, 0, 69, 43, 180, 0, 69, 184, 0, 107, 42]
abbrev dktX1_takes_8 : List UInt8 := dkwX1_takes_8 ++ dktX1_takes_9
def dkwX1_takes_7 : List UInt8 := [180, 0, 60, 43, 180, 0, 60, 184, 0, 107, 42, 180, 0, 63, 43, 180, 0, 63, 184, 0, 107, 42]
abbrev dktX1_takes_7 : List UInt8 := dkwX1_takes_7 ++ dktX1_takes_8
def dkwX1_takes_6 : List UInt8 := [180, 0, 54, 43, 180, 0, 54, 184, 0, 107, 42, 180, 0, 57, 43, 180, 0, 57, 184, 0, 107, 42]
abbrev dktX1_takes_6 : List UInt8 := dkwX1_takes_6 ++ dktX1_takes_7
def dkwX1_takes_5 : List UInt8 := [180, 0, 48, 43, 180, 0, 48, 184, 0, 107, 42, 180, 0, 51, 43, 180, 0, 51, 184, 0, 107, 42]
abbrev dktX1_takes_5 : List UInt8 := dkwX1_takes_5 ++ dktX1_takes_6
def dkwX1_takes_4 : List UInt8 := [180, 0, 42, 43, 180, 0, 42, 184, 0, 107, 42, 180, 0, 45, 43, 180, 0, 45, 184, 0, 107, 42]
abbrev dktX1_takes_4 : List UInt8 := dkwX1_takes_4 ++ dktX1_takes_5
def dkwX1_takes_3 : List UInt8 := [180, 0, 35, 43, 180, 0, 35, 184, 0, 107, 42, 180, 0, 39, 43, 180, 0, 39, 184, 0, 107, 42]
abbrev dktX1_takes_3 : List UInt8 := dkwX1_takes_3 ++ dktX1_takes_4
def dkwX1_takes_2 : List UInt8 := [180, 0, 29, 43, 180, 0, 29, 184, 0, 103, 42, 180, 0, 32, 43, 180, 0, 32, 184, 0, 103, 42]
abbrev dktX1_takes_2 : List UInt8 := dkwX1_takes_2 ++ dktX1_takes_3
def dkwX1_takes_1 : List UInt8 := [180, 0, 23, 43, 180, 0, 23, 184, 0, 103, 42, 180, 0, 26, 43, 180, 0, 26, 184, 0, 103, 42]
abbrev dktX1_takes_1 : List UInt8 := dkwX1_takes_1 ++ dktX1_takes_2
def dkwX1_takes_0 : List UInt8 := [42, 180, 0, 14, 43, 180, 0, 14, 184, 0, 103, 42, 180, 0, 20, 43, 180, 0, 20, 184, 0, 103, 42]
abbrev dktX1_takes_0 : List UInt8 := dkwX1_takes_0 ++ dktX1_takes_1
theorem dksX1_takes_0 : cX1_takes.data.toList.drop 0 = dktX1_takes_0 := by decide +kernel
theorem dksX1_takes_1 : cX1_takes.data.toList.drop 23 = dktX1_takes_1 := dk_seg dksX1_takes_0 23 rfl rfl
theorem dksX1_takes_2 : cX1_takes.data.toList.drop 45 = dktX1_takes_2 := dk_seg dksX1_takes_1 22 rfl rfl
theorem dksX1_takes_3 : cX1_takes.data.toList.drop 67 = dktX1_takes_3 := dk_seg dksX1_takes_2 22 rfl rfl
theorem dksX1_takes_4 : cX1_takes.data.toList.drop 89 = dktX1_takes_4 := dk_seg dksX1_takes_3 22 rfl rfl
theorem dksX1_takes_5 : cX1_takes.data.toList.drop 111 = dktX1_takes_5 := dk_seg dksX1_takes_4 22 rfl rfl
theorem dksX1_takes_6 : cX1_takes.data.toList.drop 133 = dktX1_takes_6 := dk_seg dksX1_takes_5 22 rfl rfl
theorem dksX1_takes_7 : cX1_takes.data.toList.drop 155 = dktX1_takes_7 := dk_seg dksX1_takes_6 22 rfl rfl
theorem dksX1_takes_8 : cX1_takes.data.toList.drop 177 = dktX1_takes_8 := dk_seg dksX1_takes_7 22 rfl rfl
theorem dksX1_takes_9 : cX1_takes.data.toList.drop 199 = dktX1_takes_9 := dk_seg dksX1_takes_8 22 rfl rfl
theorem dksX1_takes_10 : cX1_takes.data.toList.drop 221 = dktX1_takes_10 := dk_seg dksX1_takes_9 22 rfl rfl
theorem dksX1_takes_11 : cX1_takes.data.toList.drop 245 = dktX1_takes_11 := dk_seg dksX1_takes_10 24 rfl rfl
theorem dksX1_takes_12 : cX1_takes.data.toList.drop 267 = dktX1_takes_12 := dk_seg dksX1_takes_11 22 rfl rfl
theorem dksX1_takes_13 : cX1_takes.data.toList.drop 291 = dktX1_takes_13 := dk_seg dksX1_takes_12 24 rfl rfl
theorem dX1_takes_0 : decode cX1_takes 0 = .ok (.aload_n 0, 1) := dk_42 (dk_at dksX1_takes_0 0 rfl rfl)
theorem dX1_takes_1 : decode cX1_takes 1 = .ok (.getfield 14, 3) := dk_180 0 14 (dk_at dksX1_takes_0 1 rfl rfl)
theorem dX1_takes_4 : decode cX1_takes 4 = .ok (.aload_n 1, 1) := dk_43 (dk_at dksX1_takes_0 4 rfl rfl)
theorem dX1_takes_5 : decode cX1_takes 5 = .ok (.getfield 14, 3) := dk_180 0 14 (dk_at dksX1_takes_0 5 rfl rfl)
theorem dX1_takes_8 : decode cX1_takes 8 = .ok (.invokestatic 103, 3) := dk_184 0 103 (dk_at dksX1_takes_0 8 rfl rfl)
theorem dX1_takes_11 : decode cX1_takes 11 = .ok (.aload_n 0, 1) := dk_42 (dk_at dksX1_takes_0 11 rfl rfl)
theorem dX1_takes_12 : decode cX1_takes 12 = .ok (.getfield 20, 3) := dk_180 0 20 (dk_at dksX1_takes_0 12 rfl rfl)
theorem dX1_takes_15 : decode cX1_takes 15 = .ok (.aload_n 1, 1) := dk_43 (dk_at dksX1_takes_0 15 rfl rfl)
theorem dX1_takes_16 : decode cX1_takes 16 = .ok (.getfield 20, 3) := dk_180 0 20 (dk_at dksX1_takes_0 16 rfl rfl)
theorem dX1_takes_19 : decode cX1_takes 19 = .ok (.invokestatic 103, 3) := dk_184 0 103 (dk_at dksX1_takes_0 19 rfl rfl)
theorem dX1_takes_22 : decode cX1_takes 22 = .ok (.aload_n 0, 1) := dk_42 (dk_at dksX1_takes_0 22 rfl rfl)
theorem dX1_takes_23 : decode cX1_takes 23 = .ok (.getfield 23, 3) := dk_180 0 23 (dk_at dksX1_takes_1 0 rfl rfl)
theorem dX1_takes_26 : decode cX1_takes 26 = .ok (.aload_n 1, 1) := dk_43 (dk_at dksX1_takes_1 3 rfl rfl)
theorem dX1_takes_27 : decode cX1_takes 27 = .ok (.getfield 23, 3) := dk_180 0 23 (dk_at dksX1_takes_1 4 rfl rfl)
theorem dX1_takes_30 : decode cX1_takes 30 = .ok (.invokestatic 103, 3) := dk_184 0 103 (dk_at dksX1_takes_1 7 rfl rfl)
theorem dX1_takes_33 : decode cX1_takes 33 = .ok (.aload_n 0, 1) := dk_42 (dk_at dksX1_takes_1 10 rfl rfl)
theorem dX1_takes_34 : decode cX1_takes 34 = .ok (.getfield 26, 3) := dk_180 0 26 (dk_at dksX1_takes_1 11 rfl rfl)
theorem dX1_takes_37 : decode cX1_takes 37 = .ok (.aload_n 1, 1) := dk_43 (dk_at dksX1_takes_1 14 rfl rfl)
theorem dX1_takes_38 : decode cX1_takes 38 = .ok (.getfield 26, 3) := dk_180 0 26 (dk_at dksX1_takes_1 15 rfl rfl)
theorem dX1_takes_41 : decode cX1_takes 41 = .ok (.invokestatic 103, 3) := dk_184 0 103 (dk_at dksX1_takes_1 18 rfl rfl)
theorem dX1_takes_44 : decode cX1_takes 44 = .ok (.aload_n 0, 1) := dk_42 (dk_at dksX1_takes_1 21 rfl rfl)
theorem dX1_takes_45 : decode cX1_takes 45 = .ok (.getfield 29, 3) := dk_180 0 29 (dk_at dksX1_takes_2 0 rfl rfl)
theorem dX1_takes_48 : decode cX1_takes 48 = .ok (.aload_n 1, 1) := dk_43 (dk_at dksX1_takes_2 3 rfl rfl)
theorem dX1_takes_49 : decode cX1_takes 49 = .ok (.getfield 29, 3) := dk_180 0 29 (dk_at dksX1_takes_2 4 rfl rfl)
theorem dX1_takes_52 : decode cX1_takes 52 = .ok (.invokestatic 103, 3) := dk_184 0 103 (dk_at dksX1_takes_2 7 rfl rfl)
theorem dX1_takes_55 : decode cX1_takes 55 = .ok (.aload_n 0, 1) := dk_42 (dk_at dksX1_takes_2 10 rfl rfl)
theorem dX1_takes_56 : decode cX1_takes 56 = .ok (.getfield 32, 3) := dk_180 0 32 (dk_at dksX1_takes_2 11 rfl rfl)
theorem dX1_takes_59 : decode cX1_takes 59 = .ok (.aload_n 1, 1) := dk_43 (dk_at dksX1_takes_2 14 rfl rfl)
theorem dX1_takes_60 : decode cX1_takes 60 = .ok (.getfield 32, 3) := dk_180 0 32 (dk_at dksX1_takes_2 15 rfl rfl)
theorem dX1_takes_63 : decode cX1_takes 63 = .ok (.invokestatic 103, 3) := dk_184 0 103 (dk_at dksX1_takes_2 18 rfl rfl)
theorem dX1_takes_66 : decode cX1_takes 66 = .ok (.aload_n 0, 1) := dk_42 (dk_at dksX1_takes_2 21 rfl rfl)
theorem dX1_takes_67 : decode cX1_takes 67 = .ok (.getfield 35, 3) := dk_180 0 35 (dk_at dksX1_takes_3 0 rfl rfl)
theorem dX1_takes_70 : decode cX1_takes 70 = .ok (.aload_n 1, 1) := dk_43 (dk_at dksX1_takes_3 3 rfl rfl)
theorem dX1_takes_71 : decode cX1_takes 71 = .ok (.getfield 35, 3) := dk_180 0 35 (dk_at dksX1_takes_3 4 rfl rfl)
theorem dX1_takes_74 : decode cX1_takes 74 = .ok (.invokestatic 107, 3) := dk_184 0 107 (dk_at dksX1_takes_3 7 rfl rfl)
theorem dX1_takes_77 : decode cX1_takes 77 = .ok (.aload_n 0, 1) := dk_42 (dk_at dksX1_takes_3 10 rfl rfl)
theorem dX1_takes_78 : decode cX1_takes 78 = .ok (.getfield 39, 3) := dk_180 0 39 (dk_at dksX1_takes_3 11 rfl rfl)
theorem dX1_takes_81 : decode cX1_takes 81 = .ok (.aload_n 1, 1) := dk_43 (dk_at dksX1_takes_3 14 rfl rfl)
theorem dX1_takes_82 : decode cX1_takes 82 = .ok (.getfield 39, 3) := dk_180 0 39 (dk_at dksX1_takes_3 15 rfl rfl)
theorem dX1_takes_85 : decode cX1_takes 85 = .ok (.invokestatic 107, 3) := dk_184 0 107 (dk_at dksX1_takes_3 18 rfl rfl)
theorem dX1_takes_88 : decode cX1_takes 88 = .ok (.aload_n 0, 1) := dk_42 (dk_at dksX1_takes_3 21 rfl rfl)
theorem dX1_takes_89 : decode cX1_takes 89 = .ok (.getfield 42, 3) := dk_180 0 42 (dk_at dksX1_takes_4 0 rfl rfl)
theorem dX1_takes_92 : decode cX1_takes 92 = .ok (.aload_n 1, 1) := dk_43 (dk_at dksX1_takes_4 3 rfl rfl)
theorem dX1_takes_93 : decode cX1_takes 93 = .ok (.getfield 42, 3) := dk_180 0 42 (dk_at dksX1_takes_4 4 rfl rfl)
theorem dX1_takes_96 : decode cX1_takes 96 = .ok (.invokestatic 107, 3) := dk_184 0 107 (dk_at dksX1_takes_4 7 rfl rfl)
theorem dX1_takes_99 : decode cX1_takes 99 = .ok (.aload_n 0, 1) := dk_42 (dk_at dksX1_takes_4 10 rfl rfl)
theorem dX1_takes_100 : decode cX1_takes 100 = .ok (.getfield 45, 3) := dk_180 0 45 (dk_at dksX1_takes_4 11 rfl rfl)
theorem dX1_takes_103 : decode cX1_takes 103 = .ok (.aload_n 1, 1) := dk_43 (dk_at dksX1_takes_4 14 rfl rfl)
theorem dX1_takes_104 : decode cX1_takes 104 = .ok (.getfield 45, 3) := dk_180 0 45 (dk_at dksX1_takes_4 15 rfl rfl)
theorem dX1_takes_107 : decode cX1_takes 107 = .ok (.invokestatic 107, 3) := dk_184 0 107 (dk_at dksX1_takes_4 18 rfl rfl)
theorem dX1_takes_110 : decode cX1_takes 110 = .ok (.aload_n 0, 1) := dk_42 (dk_at dksX1_takes_4 21 rfl rfl)
theorem dX1_takes_111 : decode cX1_takes 111 = .ok (.getfield 48, 3) := dk_180 0 48 (dk_at dksX1_takes_5 0 rfl rfl)
theorem dX1_takes_114 : decode cX1_takes 114 = .ok (.aload_n 1, 1) := dk_43 (dk_at dksX1_takes_5 3 rfl rfl)
theorem dX1_takes_115 : decode cX1_takes 115 = .ok (.getfield 48, 3) := dk_180 0 48 (dk_at dksX1_takes_5 4 rfl rfl)
theorem dX1_takes_118 : decode cX1_takes 118 = .ok (.invokestatic 107, 3) := dk_184 0 107 (dk_at dksX1_takes_5 7 rfl rfl)
theorem dX1_takes_121 : decode cX1_takes 121 = .ok (.aload_n 0, 1) := dk_42 (dk_at dksX1_takes_5 10 rfl rfl)
theorem dX1_takes_122 : decode cX1_takes 122 = .ok (.getfield 51, 3) := dk_180 0 51 (dk_at dksX1_takes_5 11 rfl rfl)
theorem dX1_takes_125 : decode cX1_takes 125 = .ok (.aload_n 1, 1) := dk_43 (dk_at dksX1_takes_5 14 rfl rfl)
theorem dX1_takes_126 : decode cX1_takes 126 = .ok (.getfield 51, 3) := dk_180 0 51 (dk_at dksX1_takes_5 15 rfl rfl)
theorem dX1_takes_129 : decode cX1_takes 129 = .ok (.invokestatic 107, 3) := dk_184 0 107 (dk_at dksX1_takes_5 18 rfl rfl)
theorem dX1_takes_132 : decode cX1_takes 132 = .ok (.aload_n 0, 1) := dk_42 (dk_at dksX1_takes_5 21 rfl rfl)
theorem dX1_takes_133 : decode cX1_takes 133 = .ok (.getfield 54, 3) := dk_180 0 54 (dk_at dksX1_takes_6 0 rfl rfl)
theorem dX1_takes_136 : decode cX1_takes 136 = .ok (.aload_n 1, 1) := dk_43 (dk_at dksX1_takes_6 3 rfl rfl)
theorem dX1_takes_137 : decode cX1_takes 137 = .ok (.getfield 54, 3) := dk_180 0 54 (dk_at dksX1_takes_6 4 rfl rfl)
theorem dX1_takes_140 : decode cX1_takes 140 = .ok (.invokestatic 107, 3) := dk_184 0 107 (dk_at dksX1_takes_6 7 rfl rfl)
theorem dX1_takes_143 : decode cX1_takes 143 = .ok (.aload_n 0, 1) := dk_42 (dk_at dksX1_takes_6 10 rfl rfl)
theorem dX1_takes_144 : decode cX1_takes 144 = .ok (.getfield 57, 3) := dk_180 0 57 (dk_at dksX1_takes_6 11 rfl rfl)
theorem dX1_takes_147 : decode cX1_takes 147 = .ok (.aload_n 1, 1) := dk_43 (dk_at dksX1_takes_6 14 rfl rfl)
theorem dX1_takes_148 : decode cX1_takes 148 = .ok (.getfield 57, 3) := dk_180 0 57 (dk_at dksX1_takes_6 15 rfl rfl)
theorem dX1_takes_151 : decode cX1_takes 151 = .ok (.invokestatic 107, 3) := dk_184 0 107 (dk_at dksX1_takes_6 18 rfl rfl)
theorem dX1_takes_154 : decode cX1_takes 154 = .ok (.aload_n 0, 1) := dk_42 (dk_at dksX1_takes_6 21 rfl rfl)
theorem dX1_takes_155 : decode cX1_takes 155 = .ok (.getfield 60, 3) := dk_180 0 60 (dk_at dksX1_takes_7 0 rfl rfl)
theorem dX1_takes_158 : decode cX1_takes 158 = .ok (.aload_n 1, 1) := dk_43 (dk_at dksX1_takes_7 3 rfl rfl)
theorem dX1_takes_159 : decode cX1_takes 159 = .ok (.getfield 60, 3) := dk_180 0 60 (dk_at dksX1_takes_7 4 rfl rfl)
theorem dX1_takes_162 : decode cX1_takes 162 = .ok (.invokestatic 107, 3) := dk_184 0 107 (dk_at dksX1_takes_7 7 rfl rfl)
theorem dX1_takes_165 : decode cX1_takes 165 = .ok (.aload_n 0, 1) := dk_42 (dk_at dksX1_takes_7 10 rfl rfl)
theorem dX1_takes_166 : decode cX1_takes 166 = .ok (.getfield 63, 3) := dk_180 0 63 (dk_at dksX1_takes_7 11 rfl rfl)
theorem dX1_takes_169 : decode cX1_takes 169 = .ok (.aload_n 1, 1) := dk_43 (dk_at dksX1_takes_7 14 rfl rfl)
theorem dX1_takes_170 : decode cX1_takes 170 = .ok (.getfield 63, 3) := dk_180 0 63 (dk_at dksX1_takes_7 15 rfl rfl)
theorem dX1_takes_173 : decode cX1_takes 173 = .ok (.invokestatic 107, 3) := dk_184 0 107 (dk_at dksX1_takes_7 18 rfl rfl)
theorem dX1_takes_176 : decode cX1_takes 176 = .ok (.aload_n 0, 1) := dk_42 (dk_at dksX1_takes_7 21 rfl rfl)
theorem dX1_takes_177 : decode cX1_takes 177 = .ok (.getfield 66, 3) := dk_180 0 66 (dk_at dksX1_takes_8 0 rfl rfl)
theorem dX1_takes_180 : decode cX1_takes 180 = .ok (.aload_n 1, 1) := dk_43 (dk_at dksX1_takes_8 3 rfl rfl)
theorem dX1_takes_181 : decode cX1_takes 181 = .ok (.getfield 66, 3) := dk_180 0 66 (dk_at dksX1_takes_8 4 rfl rfl)
theorem dX1_takes_184 : decode cX1_takes 184 = .ok (.invokestatic 107, 3) := dk_184 0 107 (dk_at dksX1_takes_8 7 rfl rfl)
theorem dX1_takes_187 : decode cX1_takes 187 = .ok (.aload_n 0, 1) := dk_42 (dk_at dksX1_takes_8 10 rfl rfl)
theorem dX1_takes_188 : decode cX1_takes 188 = .ok (.getfield 69, 3) := dk_180 0 69 (dk_at dksX1_takes_8 11 rfl rfl)
theorem dX1_takes_191 : decode cX1_takes 191 = .ok (.aload_n 1, 1) := dk_43 (dk_at dksX1_takes_8 14 rfl rfl)
theorem dX1_takes_192 : decode cX1_takes 192 = .ok (.getfield 69, 3) := dk_180 0 69 (dk_at dksX1_takes_8 15 rfl rfl)
theorem dX1_takes_195 : decode cX1_takes 195 = .ok (.invokestatic 107, 3) := dk_184 0 107 (dk_at dksX1_takes_8 18 rfl rfl)
theorem dX1_takes_198 : decode cX1_takes 198 = .ok (.aload_n 0, 1) := dk_42 (dk_at dksX1_takes_8 21 rfl rfl)
theorem dX1_takes_199 : decode cX1_takes 199 = .ok (.getfield 72, 3) := dk_180 0 72 (dk_at dksX1_takes_9 0 rfl rfl)
theorem dX1_takes_202 : decode cX1_takes 202 = .ok (.aload_n 1, 1) := dk_43 (dk_at dksX1_takes_9 3 rfl rfl)
theorem dX1_takes_203 : decode cX1_takes 203 = .ok (.getfield 72, 3) := dk_180 0 72 (dk_at dksX1_takes_9 4 rfl rfl)
theorem dX1_takes_206 : decode cX1_takes 206 = .ok (.invokestatic 107, 3) := dk_184 0 107 (dk_at dksX1_takes_9 7 rfl rfl)
theorem dX1_takes_209 : decode cX1_takes 209 = .ok (.aload_n 1, 1) := dk_43 (dk_at dksX1_takes_9 10 rfl rfl)
theorem dX1_takes_210 : decode cX1_takes 210 = .ok (.getfield 75, 3) := dk_180 0 75 (dk_at dksX1_takes_9 11 rfl rfl)
theorem dX1_takes_213 : decode cX1_takes 213 = .ok (.iconst 0, 1) := dk_3 (dk_at dksX1_takes_9 14 rfl rfl)
theorem dX1_takes_214 : decode cX1_takes 214 = .ok (.aload_n 0, 1) := dk_42 (dk_at dksX1_takes_9 15 rfl rfl)
theorem dX1_takes_215 : decode cX1_takes 215 = .ok (.getfield 75, 3) := dk_180 0 75 (dk_at dksX1_takes_9 16 rfl rfl)
theorem dX1_takes_218 : decode cX1_takes 218 = .ok (.iconst 0, 1) := dk_3 (dk_at dksX1_takes_9 19 rfl rfl)
theorem dX1_takes_219 : decode cX1_takes 219 = .ok (.bipush 20, 2) := dk_16 20 (dk_at dksX1_takes_9 20 rfl rfl)
theorem dX1_takes_221 : decode cX1_takes 221 = .ok (.invokestatic 97, 3) := dk_184 0 97 (dk_at dksX1_takes_10 0 rfl rfl)
theorem dX1_takes_224 : decode cX1_takes 224 = .ok (.aload_n 1, 1) := dk_43 (dk_at dksX1_takes_10 3 rfl rfl)
theorem dX1_takes_225 : decode cX1_takes 225 = .ok (.getfield 79, 3) := dk_180 0 79 (dk_at dksX1_takes_10 4 rfl rfl)
theorem dX1_takes_228 : decode cX1_takes 228 = .ok (.iconst 0, 1) := dk_3 (dk_at dksX1_takes_10 7 rfl rfl)
theorem dX1_takes_229 : decode cX1_takes 229 = .ok (.aload_n 0, 1) := dk_42 (dk_at dksX1_takes_10 8 rfl rfl)
theorem dX1_takes_230 : decode cX1_takes 230 = .ok (.getfield 79, 3) := dk_180 0 79 (dk_at dksX1_takes_10 9 rfl rfl)
theorem dX1_takes_233 : decode cX1_takes 233 = .ok (.iconst 0, 1) := dk_3 (dk_at dksX1_takes_10 12 rfl rfl)
theorem dX1_takes_234 : decode cX1_takes 234 = .ok (.bipush 20, 2) := dk_16 20 (dk_at dksX1_takes_10 13 rfl rfl)
theorem dX1_takes_236 : decode cX1_takes 236 = .ok (.invokestatic 97, 3) := dk_184 0 97 (dk_at dksX1_takes_10 15 rfl rfl)
theorem dX1_takes_239 : decode cX1_takes 239 = .ok (.aload_n 1, 1) := dk_43 (dk_at dksX1_takes_10 18 rfl rfl)
theorem dX1_takes_240 : decode cX1_takes 240 = .ok (.getfield 82, 3) := dk_180 0 82 (dk_at dksX1_takes_10 19 rfl rfl)
theorem dX1_takes_243 : decode cX1_takes 243 = .ok (.iconst 0, 1) := dk_3 (dk_at dksX1_takes_10 22 rfl rfl)
theorem dX1_takes_244 : decode cX1_takes 244 = .ok (.aload_n 0, 1) := dk_42 (dk_at dksX1_takes_10 23 rfl rfl)
theorem dX1_takes_245 : decode cX1_takes 245 = .ok (.getfield 82, 3) := dk_180 0 82 (dk_at dksX1_takes_11 0 rfl rfl)
theorem dX1_takes_248 : decode cX1_takes 248 = .ok (.iconst 0, 1) := dk_3 (dk_at dksX1_takes_11 3 rfl rfl)
theorem dX1_takes_249 : decode cX1_takes 249 = .ok (.aload_n 0, 1) := dk_42 (dk_at dksX1_takes_11 4 rfl rfl)
theorem dX1_takes_250 : decode cX1_takes 250 = .ok (.getfield 82, 3) := dk_180 0 82 (dk_at dksX1_takes_11 5 rfl rfl)
theorem dX1_takes_253 : decode cX1_takes 253 = .ok (.arraylength, 1) := dk_190 (dk_at dksX1_takes_11 8 rfl rfl)
theorem dX1_takes_254 : decode cX1_takes 254 = .ok (.invokestatic 97, 3) := dk_184 0 97 (dk_at dksX1_takes_11 9 rfl rfl)
theorem dX1_takes_257 : decode cX1_takes 257 = .ok (.aload_n 0, 1) := dk_42 (dk_at dksX1_takes_11 12 rfl rfl)
theorem dX1_takes_258 : decode cX1_takes 258 = .ok (.aload_n 1, 1) := dk_43 (dk_at dksX1_takes_11 13 rfl rfl)
theorem dX1_takes_259 : decode cX1_takes 259 = .ok (.getfield 111, 3) := dk_180 0 111 (dk_at dksX1_takes_11 14 rfl rfl)
theorem dX1_takes_262 : decode cX1_takes 262 = .ok (.putfield 111, 3) := dk_181 0 111 (dk_at dksX1_takes_11 17 rfl rfl)
theorem dX1_takes_265 : decode cX1_takes 265 = .ok (.aload_n 0, 1) := dk_42 (dk_at dksX1_takes_11 20 rfl rfl)
theorem dX1_takes_266 : decode cX1_takes 266 = .ok (.aload_n 1, 1) := dk_43 (dk_at dksX1_takes_11 21 rfl rfl)
theorem dX1_takes_267 : decode cX1_takes 267 = .ok (.getfield 114, 3) := dk_180 0 114 (dk_at dksX1_takes_12 0 rfl rfl)
theorem dX1_takes_270 : decode cX1_takes 270 = .ok (.putfield 114, 3) := dk_181 0 114 (dk_at dksX1_takes_12 3 rfl rfl)
theorem dX1_takes_273 : decode cX1_takes 273 = .ok (.aload_n 0, 1) := dk_42 (dk_at dksX1_takes_12 6 rfl rfl)
theorem dX1_takes_274 : decode cX1_takes 274 = .ok (.aload_n 1, 1) := dk_43 (dk_at dksX1_takes_12 7 rfl rfl)
theorem dX1_takes_275 : decode cX1_takes 275 = .ok (.getfield 117, 3) := dk_180 0 117 (dk_at dksX1_takes_12 8 rfl rfl)
theorem dX1_takes_278 : decode cX1_takes 278 = .ok (.putfield 117, 3) := dk_181 0 117 (dk_at dksX1_takes_12 11 rfl rfl)
theorem dX1_takes_281 : decode cX1_takes 281 = .ok (.aload_n 0, 1) := dk_42 (dk_at dksX1_takes_12 14 rfl rfl)
theorem dX1_takes_282 : decode cX1_takes 282 = .ok (.aload_n 1, 1) := dk_43 (dk_at dksX1_takes_12 15 rfl rfl)
theorem dX1_takes_283 : decode cX1_takes 283 = .ok (.getfield 86, 3) := dk_180 0 86 (dk_at dksX1_takes_12 16 rfl rfl)
theorem dX1_takes_286 : decode cX1_takes 286 = .ok (.putfield 86, 3) := dk_181 0 86 (dk_at dksX1_takes_12 19 rfl rfl)
theorem dX1_takes_289 : decode cX1_takes 289 = .ok (.aload_n 0, 1) := dk_42 (dk_at dksX1_takes_12 22 rfl rfl)
theorem dX1_takes_290 : decode cX1_takes 290 = .ok (.aload_n 1, 1) := dk_43 (dk_at dksX1_takes_12 23 rfl rfl)
theorem dX1_takes_291 : decode cX1_takes 291 = .ok (.getfield 120, 3) := dk_180 0 120 (dk_at dksX1_takes_13 0 rfl rfl)
theorem dX1_takes_294 : decode cX1_takes 294 = .ok (.putfield 120, 3) := dk_181 0 120 (dk_at dksX1_takes_13 3 rfl rfl)
theorem dX1_takes_297 : decode cX1_takes 297 = .ok (.return_, 1) := dk_177 (dk_at dksX1_takes_13 6 rfl rfl)
def dkwX1_over_0 : List UInt8 := [42, 182, 0, 90, 42, 43, 182, 0, 93, 87, 177]
abbrev dktX1_over_0 : List UInt8 := dkwX1_over_0 ++ []
theorem dksX1_over_0 : cX1_over.data.toList.drop 0 = dktX1_over_0 := by decide +kernel
theorem dX1_over_0 : decode cX1_over 0 = .ok (.aload_n 0, 1) := dk_42 (dk_at dksX1_over_0 0 rfl rfl)
theorem dX1_over_1 : decode cX1_over 1 = .ok (.invokevirtual 90, 3) := dk_182 0 90 (dk_at dksX1_over_0 1 rfl rfl)
theorem dX1_over_4 : decode cX1_over 4 = .ok (.aload_n 0, 1) := dk_42 (dk_at dksX1_over_0 4 rfl rfl)
theorem dX1_over_5 : decode cX1_over 5 = .ok (.aload_n 1, 1) := dk_43 (dk_at dksX1_over_0 5 rfl rfl)
theorem dX1_over_6 : decode cX1_over 6 = .ok (.invokevirtual 93, 3) := dk_182 0 93 (dk_at dksX1_over_0 6 rfl rfl)
theorem dX1_over_9 : decode cX1_over 9 = .ok (.pop, 1) := dk_87 (dk_at dksX1_over_0 9 rfl rfl)
theorem dX1_over_10 : decode cX1_over 10 = .ok (.return_, 1) := dk_177 (dk_at dksX1_over_0 10 rfl rfl)
def dkwX1_rows_0 : List UInt8 := [43, 3, 42, 3, 42, 190, 184, 0, 97, 177]
abbrev dktX1_rows_0 : List UInt8 := dkwX1_rows_0 ++ []
theorem dksX1_rows_0 : cX1_rows.data.toList.drop 0 = dktX1_rows_0 := by decide +kernel
theorem dX1_rows_0 : decode cX1_rows 0 = .ok (.aload_n 1, 1) := dk_43 (dk_at dksX1_rows_0 0 rfl rfl)
theorem dX1_rows_1 : decode cX1_rows 1 = .ok (.iconst 0, 1) := dk_3 (dk_at dksX1_rows_0 1 rfl rfl)
theorem dX1_rows_2 : decode cX1_rows 2 = .ok (.aload_n 0, 1) := dk_42 (dk_at dksX1_rows_0 2 rfl rfl)
theorem dX1_rows_3 : decode cX1_rows 3 = .ok (.iconst 0, 1) := dk_3 (dk_at dksX1_rows_0 3 rfl rfl)
theorem dX1_rows_4 : decode cX1_rows 4 = .ok (.aload_n 0, 1) := dk_42 (dk_at dksX1_rows_0 4 rfl rfl)
theorem dX1_rows_5 : decode cX1_rows 5 = .ok (.arraylength, 1) := dk_190 (dk_at dksX1_rows_0 5 rfl rfl)
theorem dX1_rows_6 : decode cX1_rows 6 = .ok (.invokestatic 97, 3) := dk_184 0 97 (dk_at dksX1_rows_0 6 rfl rfl)
theorem dX1_rows_9 : decode cX1_rows 9 = .ok (.return_, 1) := dk_177 (dk_at dksX1_rows_0 9 rfl rfl)
def dkwX1_far_1 : List UInt8 := [180, 0, 42, 28, 46, 100, 184, 0, 123, 96, 172]
abbrev dktX1_far_1 : List UInt8 := dkwX1_far_1 ++ []
def dkwX1_far_0 : List UInt8 := [42, 180, 0, 39, 27, 46, 42, 180, 0, 39, 28, 46, 100, 184, 0, 123, 42, 180, 0, 42, 27, 46, 42]
abbrev dktX1_far_0 : List UInt8 := dkwX1_far_0 ++ dktX1_far_1
theorem dksX1_far_0 : cX1_far.data.toList.drop 0 = dktX1_far_0 := by decide +kernel
theorem dksX1_far_1 : cX1_far.data.toList.drop 23 = dktX1_far_1 := dk_seg dksX1_far_0 23 rfl rfl
theorem dX1_far_0 : decode cX1_far 0 = .ok (.aload_n 0, 1) := dk_42 (dk_at dksX1_far_0 0 rfl rfl)
theorem dX1_far_1 : decode cX1_far 1 = .ok (.getfield 39, 3) := dk_180 0 39 (dk_at dksX1_far_0 1 rfl rfl)
theorem dX1_far_4 : decode cX1_far 4 = .ok (.iload_n 1, 1) := dk_27 (dk_at dksX1_far_0 4 rfl rfl)
theorem dX1_far_5 : decode cX1_far 5 = .ok (.iaload, 1) := dk_46 (dk_at dksX1_far_0 5 rfl rfl)
theorem dX1_far_6 : decode cX1_far 6 = .ok (.aload_n 0, 1) := dk_42 (dk_at dksX1_far_0 6 rfl rfl)
theorem dX1_far_7 : decode cX1_far 7 = .ok (.getfield 39, 3) := dk_180 0 39 (dk_at dksX1_far_0 7 rfl rfl)
theorem dX1_far_10 : decode cX1_far 10 = .ok (.iload_n 2, 1) := dk_28 (dk_at dksX1_far_0 10 rfl rfl)
theorem dX1_far_11 : decode cX1_far 11 = .ok (.iaload, 1) := dk_46 (dk_at dksX1_far_0 11 rfl rfl)
theorem dX1_far_12 : decode cX1_far 12 = .ok (.isub, 1) := dk_100 (dk_at dksX1_far_0 12 rfl rfl)
theorem dX1_far_13 : decode cX1_far 13 = .ok (.invokestatic 123, 3) := dk_184 0 123 (dk_at dksX1_far_0 13 rfl rfl)
theorem dX1_far_16 : decode cX1_far 16 = .ok (.aload_n 0, 1) := dk_42 (dk_at dksX1_far_0 16 rfl rfl)
theorem dX1_far_17 : decode cX1_far 17 = .ok (.getfield 42, 3) := dk_180 0 42 (dk_at dksX1_far_0 17 rfl rfl)
theorem dX1_far_20 : decode cX1_far 20 = .ok (.iload_n 1, 1) := dk_27 (dk_at dksX1_far_0 20 rfl rfl)
theorem dX1_far_21 : decode cX1_far 21 = .ok (.iaload, 1) := dk_46 (dk_at dksX1_far_0 21 rfl rfl)
theorem dX1_far_22 : decode cX1_far 22 = .ok (.aload_n 0, 1) := dk_42 (dk_at dksX1_far_0 22 rfl rfl)
theorem dX1_far_23 : decode cX1_far 23 = .ok (.getfield 42, 3) := dk_180 0 42 (dk_at dksX1_far_1 0 rfl rfl)
theorem dX1_far_26 : decode cX1_far 26 = .ok (.iload_n 2, 1) := dk_28 (dk_at dksX1_far_1 3 rfl rfl)
theorem dX1_far_27 : decode cX1_far 27 = .ok (.iaload, 1) := dk_46 (dk_at dksX1_far_1 4 rfl rfl)
theorem dX1_far_28 : decode cX1_far 28 = .ok (.isub, 1) := dk_100 (dk_at dksX1_far_1 5 rfl rfl)
theorem dX1_far_29 : decode cX1_far 29 = .ok (.invokestatic 123, 3) := dk_184 0 123 (dk_at dksX1_far_1 6 rfl rfl)
theorem dX1_far_32 : decode cX1_far 32 = .ok (.iadd, 1) := dk_96 (dk_at dksX1_far_1 9 rfl rfl)
theorem dX1_far_33 : decode cX1_far 33 = .ok (.ireturn, 1) := dk_172 (dk_at dksX1_far_1 10 rfl rfl)
theorem dJ0_init_0 : decode cJ0_init 0 = .ok (.aload_n 0, 1) := by decide +kernel
theorem dJ0_init_1 : decode cJ0_init 1 = .ok (.invokespecial 1, 3) := by decide +kernel
theorem dJ0_init_4 : decode cJ0_init 4 = .ok (.return_, 1) := by decide +kernel
def dkwJ1_init_0 : List UInt8 := [42, 183, 0, 1, 42, 3, 181, 0, 7, 177]
abbrev dktJ1_init_0 : List UInt8 := dkwJ1_init_0 ++ []
theorem dksJ1_init_0 : cJ1_init.data.toList.drop 0 = dktJ1_init_0 := by decide +kernel
theorem dJ1_init_0 : decode cJ1_init 0 = .ok (.aload_n 0, 1) := dk_42 (dk_at dksJ1_init_0 0 rfl rfl)
theorem dJ1_init_1 : decode cJ1_init 1 = .ok (.invokespecial 1, 3) := dk_183 0 1 (dk_at dksJ1_init_0 1 rfl rfl)
theorem dJ1_init_4 : decode cJ1_init 4 = .ok (.aload_n 0, 1) := dk_42 (dk_at dksJ1_init_0 4 rfl rfl)
theorem dJ1_init_5 : decode cJ1_init 5 = .ok (.iconst 0, 1) := dk_3 (dk_at dksJ1_init_0 5 rfl rfl)
theorem dJ1_init_6 : decode cJ1_init 6 = .ok (.putfield 7, 3) := dk_181 0 7 (dk_at dksJ1_init_0 6 rfl rfl)
theorem dJ1_init_9 : decode cJ1_init 9 = .ok (.return_, 1) := dk_177 (dk_at dksJ1_init_0 9 rfl rfl)
def dkwJ2_init_2 : List UInt8 := [182, 0, 25, 27, 182, 0, 29, 182, 0, 32, 183, 0, 36, 191, 177]
abbrev dktJ2_init_2 : List UInt8 := dkwJ2_init_2 ++ []
def dkwJ2_init_1 : List UInt8 := [178, 0, 15, 181, 0, 9, 167, 0, 30, 187, 0, 18, 89, 187, 0, 20, 89, 183, 0, 22, 18, 23]
abbrev dktJ2_init_1 : List UInt8 := dkwJ2_init_1 ++ dktJ2_init_2
def dkwJ2_init_0 : List UInt8 := [42, 183, 0, 1, 27, 158, 0, 14, 42, 27, 189, 0, 7, 181, 0, 9, 167, 0, 44, 27, 154, 0, 13, 42]
abbrev dktJ2_init_0 : List UInt8 := dkwJ2_init_0 ++ dktJ2_init_1
theorem dksJ2_init_0 : cJ2_init.data.toList.drop 0 = dktJ2_init_0 := by decide +kernel
theorem dksJ2_init_1 : cJ2_init.data.toList.drop 24 = dktJ2_init_1 := dk_seg dksJ2_init_0 24 rfl rfl
theorem dksJ2_init_2 : cJ2_init.data.toList.drop 46 = dktJ2_init_2 := dk_seg dksJ2_init_1 22 rfl rfl
theorem dJ2_init_0 : decode cJ2_init 0 = .ok (.aload_n 0, 1) := dk_42 (dk_at dksJ2_init_0 0 rfl rfl)
theorem dJ2_init_1 : decode cJ2_init 1 = .ok (.invokespecial 1, 3) := dk_183 0 1 (dk_at dksJ2_init_0 1 rfl rfl)
theorem dJ2_init_4 : decode cJ2_init 4 = .ok (.iload_n 1, 1) := dk_27 (dk_at dksJ2_init_0 4 rfl rfl)
theorem dJ2_init_5 : decode cJ2_init 5 = .ok (.ifCond .le 14, 3) := dk_158 0 14 (dk_at dksJ2_init_0 5 rfl rfl)
theorem dJ2_init_8 : decode cJ2_init 8 = .ok (.aload_n 0, 1) := dk_42 (dk_at dksJ2_init_0 8 rfl rfl)
theorem dJ2_init_9 : decode cJ2_init 9 = .ok (.iload_n 1, 1) := dk_27 (dk_at dksJ2_init_0 9 rfl rfl)
theorem dJ2_init_10 : decode cJ2_init 10 = .ok (.anewarray 7, 3) := dk_189 0 7 (dk_at dksJ2_init_0 10 rfl rfl)
theorem dJ2_init_13 : decode cJ2_init 13 = .ok (.putfield 9, 3) := dk_181 0 9 (dk_at dksJ2_init_0 13 rfl rfl)
theorem dJ2_init_16 : decode cJ2_init 16 = .ok (.goto 44, 3) := dk_167 0 44 (dk_at dksJ2_init_0 16 rfl rfl)
theorem dJ2_init_19 : decode cJ2_init 19 = .ok (.iload_n 1, 1) := dk_27 (dk_at dksJ2_init_0 19 rfl rfl)
theorem dJ2_init_20 : decode cJ2_init 20 = .ok (.ifCond .ne 13, 3) := dk_154 0 13 (dk_at dksJ2_init_0 20 rfl rfl)
theorem dJ2_init_23 : decode cJ2_init 23 = .ok (.aload_n 0, 1) := dk_42 (dk_at dksJ2_init_0 23 rfl rfl)
theorem dJ2_init_24 : decode cJ2_init 24 = .ok (.getstatic 15, 3) := dk_178 0 15 (dk_at dksJ2_init_1 0 rfl rfl)
theorem dJ2_init_27 : decode cJ2_init 27 = .ok (.putfield 9, 3) := dk_181 0 9 (dk_at dksJ2_init_1 3 rfl rfl)
theorem dJ2_init_30 : decode cJ2_init 30 = .ok (.goto 30, 3) := dk_167 0 30 (dk_at dksJ2_init_1 6 rfl rfl)
theorem dJ2_init_33 : decode cJ2_init 33 = .ok (.new 18, 3) := dk_187 0 18 (dk_at dksJ2_init_1 9 rfl rfl)
theorem dJ2_init_36 : decode cJ2_init 36 = .ok (.dup, 1) := dk_89 (dk_at dksJ2_init_1 12 rfl rfl)
theorem dJ2_init_37 : decode cJ2_init 37 = .ok (.new 20, 3) := dk_187 0 20 (dk_at dksJ2_init_1 13 rfl rfl)
theorem dJ2_init_40 : decode cJ2_init 40 = .ok (.dup, 1) := dk_89 (dk_at dksJ2_init_1 16 rfl rfl)
theorem dJ2_init_41 : decode cJ2_init 41 = .ok (.invokespecial 22, 3) := dk_183 0 22 (dk_at dksJ2_init_1 17 rfl rfl)
theorem dJ2_init_44 : decode cJ2_init 44 = .ok (.ldc 23, 2) := dk_18 23 (dk_at dksJ2_init_1 20 rfl rfl)
theorem dJ2_init_46 : decode cJ2_init 46 = .ok (.invokevirtual 25, 3) := dk_182 0 25 (dk_at dksJ2_init_2 0 rfl rfl)
theorem dJ2_init_49 : decode cJ2_init 49 = .ok (.iload_n 1, 1) := dk_27 (dk_at dksJ2_init_2 3 rfl rfl)
theorem dJ2_init_50 : decode cJ2_init 50 = .ok (.invokevirtual 29, 3) := dk_182 0 29 (dk_at dksJ2_init_2 4 rfl rfl)
theorem dJ2_init_53 : decode cJ2_init 53 = .ok (.invokevirtual 32, 3) := dk_182 0 32 (dk_at dksJ2_init_2 7 rfl rfl)
theorem dJ2_init_56 : decode cJ2_init 56 = .ok (.invokespecial 36, 3) := dk_183 0 36 (dk_at dksJ2_init_2 10 rfl rfl)
theorem dJ2_init_59 : decode cJ2_init 59 = .ok (.athrow, 1) := dk_191 (dk_at dksJ2_init_2 13 rfl rfl)
theorem dJ2_init_60 : decode cJ2_init 60 = .ok (.return_, 1) := dk_177 (dk_at dksJ2_init_2 14 rfl rfl)
def dkwJ2_clear_1 : List UInt8 := [181, 0, 48, 62, 29, 28, 162, 0, 13, 43, 29, 1, 83, 132, 3, 1, 167, 255, 244, 177]
abbrev dktJ2_clear_1 : List UInt8 := dkwJ2_clear_1 ++ []
def dkwJ2_clear_0 : List UInt8 := [42, 89, 180, 0, 63, 4, 96, 181, 0, 63, 42, 180, 0, 9, 76, 42, 180, 0, 48, 61, 42, 3, 90]
abbrev dktJ2_clear_0 : List UInt8 := dkwJ2_clear_0 ++ dktJ2_clear_1
theorem dksJ2_clear_0 : cJ2_clear.data.toList.drop 0 = dktJ2_clear_0 := by decide +kernel
theorem dksJ2_clear_1 : cJ2_clear.data.toList.drop 23 = dktJ2_clear_1 := dk_seg dksJ2_clear_0 23 rfl rfl
theorem dJ2_clear_0 : decode cJ2_clear 0 = .ok (.aload_n 0, 1) := dk_42 (dk_at dksJ2_clear_0 0 rfl rfl)
theorem dJ2_clear_1 : decode cJ2_clear 1 = .ok (.dup, 1) := dk_89 (dk_at dksJ2_clear_0 1 rfl rfl)
theorem dJ2_clear_2 : decode cJ2_clear 2 = .ok (.getfield 63, 3) := dk_180 0 63 (dk_at dksJ2_clear_0 2 rfl rfl)
theorem dJ2_clear_5 : decode cJ2_clear 5 = .ok (.iconst 1, 1) := dk_4 (dk_at dksJ2_clear_0 5 rfl rfl)
theorem dJ2_clear_6 : decode cJ2_clear 6 = .ok (.iadd, 1) := dk_96 (dk_at dksJ2_clear_0 6 rfl rfl)
theorem dJ2_clear_7 : decode cJ2_clear 7 = .ok (.putfield 63, 3) := dk_181 0 63 (dk_at dksJ2_clear_0 7 rfl rfl)
theorem dJ2_clear_10 : decode cJ2_clear 10 = .ok (.aload_n 0, 1) := dk_42 (dk_at dksJ2_clear_0 10 rfl rfl)
theorem dJ2_clear_11 : decode cJ2_clear 11 = .ok (.getfield 9, 3) := dk_180 0 9 (dk_at dksJ2_clear_0 11 rfl rfl)
theorem dJ2_clear_14 : decode cJ2_clear 14 = .ok (.astore_n 1, 1) := dk_76 (dk_at dksJ2_clear_0 14 rfl rfl)
theorem dJ2_clear_15 : decode cJ2_clear 15 = .ok (.aload_n 0, 1) := dk_42 (dk_at dksJ2_clear_0 15 rfl rfl)
theorem dJ2_clear_16 : decode cJ2_clear 16 = .ok (.getfield 48, 3) := dk_180 0 48 (dk_at dksJ2_clear_0 16 rfl rfl)
theorem dJ2_clear_19 : decode cJ2_clear 19 = .ok (.istore_n 2, 1) := dk_61 (dk_at dksJ2_clear_0 19 rfl rfl)
theorem dJ2_clear_20 : decode cJ2_clear 20 = .ok (.aload_n 0, 1) := dk_42 (dk_at dksJ2_clear_0 20 rfl rfl)
theorem dJ2_clear_21 : decode cJ2_clear 21 = .ok (.iconst 0, 1) := dk_3 (dk_at dksJ2_clear_0 21 rfl rfl)
theorem dJ2_clear_22 : decode cJ2_clear 22 = .ok (.dup_x1, 1) := dk_90 (dk_at dksJ2_clear_0 22 rfl rfl)
theorem dJ2_clear_23 : decode cJ2_clear 23 = .ok (.putfield 48, 3) := dk_181 0 48 (dk_at dksJ2_clear_1 0 rfl rfl)
theorem dJ2_clear_26 : decode cJ2_clear 26 = .ok (.istore_n 3, 1) := dk_62 (dk_at dksJ2_clear_1 3 rfl rfl)
theorem dJ2_clear_27 : decode cJ2_clear 27 = .ok (.iload_n 3, 1) := dk_29 (dk_at dksJ2_clear_1 4 rfl rfl)
theorem dJ2_clear_28 : decode cJ2_clear 28 = .ok (.iload_n 2, 1) := dk_28 (dk_at dksJ2_clear_1 5 rfl rfl)
theorem dJ2_clear_29 : decode cJ2_clear 29 = .ok (.if_icmp .ge 13, 3) := dk_162 0 13 (dk_at dksJ2_clear_1 6 rfl rfl)
theorem dJ2_clear_32 : decode cJ2_clear 32 = .ok (.aload_n 1, 1) := dk_43 (dk_at dksJ2_clear_1 9 rfl rfl)
theorem dJ2_clear_33 : decode cJ2_clear 33 = .ok (.iload_n 3, 1) := dk_29 (dk_at dksJ2_clear_1 10 rfl rfl)
theorem dJ2_clear_34 : decode cJ2_clear 34 = .ok (.aconst_null, 1) := dk_1 (dk_at dksJ2_clear_1 11 rfl rfl)
theorem dJ2_clear_35 : decode cJ2_clear 35 = .ok (.aastore, 1) := dk_83 (dk_at dksJ2_clear_1 12 rfl rfl)
theorem dJ2_clear_36 : decode cJ2_clear 36 = .ok (.iinc 3 1, 3) := dk_132 3 1 (dk_at dksJ2_clear_1 13 rfl rfl)
theorem dJ2_clear_39 : decode cJ2_clear 39 = .ok (.goto (-12), 3) := dk_167 255 244 (dk_at dksJ2_clear_1 16 rfl rfl)
theorem dJ2_clear_42 : decode cJ2_clear 42 = .ok (.return_, 1) := dk_177 (dk_at dksJ2_clear_1 19 rfl rfl)
def dkwJ2_addAll_3 : List UInt8 := [181, 0, 48, 4, 172]
abbrev dktJ2_addAll_3 : List UInt8 := dkwJ2_addAll_3 ++ []
def dkwJ2_addAll_2 : List UInt8 := [21, 5, 29, 96, 182, 0, 69, 58, 4, 44, 3, 25, 4, 21, 5, 29, 184, 0, 112, 42, 21, 5, 29, 96]
abbrev dktJ2_addAll_2 : List UInt8 := dkwJ2_addAll_2 ++ dktJ2_addAll_3
def dkwJ2_addAll_1 : List UInt8 := [3, 172, 29, 42, 180, 0, 9, 89, 58, 4, 190, 42, 180, 0, 48, 89, 54, 5, 100, 164, 0, 13, 42]
abbrev dktJ2_addAll_1 : List UInt8 := dkwJ2_addAll_1 ++ dktJ2_addAll_2
def dkwJ2_addAll_0 : List UInt8 := [43, 185, 0, 42, 1, 0, 77, 42, 89, 180, 0, 63, 4, 96, 181, 0, 63, 44, 190, 62, 29, 154, 0, 5]
abbrev dktJ2_addAll_0 : List UInt8 := dkwJ2_addAll_0 ++ dktJ2_addAll_1
theorem dksJ2_addAll_0 : cJ2_addAll.data.toList.drop 0 = dktJ2_addAll_0 := by decide +kernel
theorem dksJ2_addAll_1 : cJ2_addAll.data.toList.drop 24 = dktJ2_addAll_1 := dk_seg dksJ2_addAll_0 24 rfl rfl
theorem dksJ2_addAll_2 : cJ2_addAll.data.toList.drop 47 = dktJ2_addAll_2 := dk_seg dksJ2_addAll_1 23 rfl rfl
theorem dksJ2_addAll_3 : cJ2_addAll.data.toList.drop 71 = dktJ2_addAll_3 := dk_seg dksJ2_addAll_2 24 rfl rfl
theorem dJ2_addAll_0 : decode cJ2_addAll 0 = .ok (.aload_n 1, 1) := dk_43 (dk_at dksJ2_addAll_0 0 rfl rfl)
theorem dJ2_addAll_1 : decode cJ2_addAll 1 = .ok (.invokeinterface 42 1, 5) := by decide +kernel
theorem dJ2_addAll_6 : decode cJ2_addAll 6 = .ok (.astore_n 2, 1) := dk_77 (dk_at dksJ2_addAll_0 6 rfl rfl)
theorem dJ2_addAll_7 : decode cJ2_addAll 7 = .ok (.aload_n 0, 1) := dk_42 (dk_at dksJ2_addAll_0 7 rfl rfl)
theorem dJ2_addAll_8 : decode cJ2_addAll 8 = .ok (.dup, 1) := dk_89 (dk_at dksJ2_addAll_0 8 rfl rfl)
theorem dJ2_addAll_9 : decode cJ2_addAll 9 = .ok (.getfield 63, 3) := dk_180 0 63 (dk_at dksJ2_addAll_0 9 rfl rfl)
theorem dJ2_addAll_12 : decode cJ2_addAll 12 = .ok (.iconst 1, 1) := dk_4 (dk_at dksJ2_addAll_0 12 rfl rfl)
theorem dJ2_addAll_13 : decode cJ2_addAll 13 = .ok (.iadd, 1) := dk_96 (dk_at dksJ2_addAll_0 13 rfl rfl)
theorem dJ2_addAll_14 : decode cJ2_addAll 14 = .ok (.putfield 63, 3) := dk_181 0 63 (dk_at dksJ2_addAll_0 14 rfl rfl)
theorem dJ2_addAll_17 : decode cJ2_addAll 17 = .ok (.aload_n 2, 1) := dk_44 (dk_at dksJ2_addAll_0 17 rfl rfl)
theorem dJ2_addAll_18 : decode cJ2_addAll 18 = .ok (.arraylength, 1) := dk_190 (dk_at dksJ2_addAll_0 18 rfl rfl)
theorem dJ2_addAll_19 : decode cJ2_addAll 19 = .ok (.istore_n 3, 1) := dk_62 (dk_at dksJ2_addAll_0 19 rfl rfl)
theorem dJ2_addAll_20 : decode cJ2_addAll 20 = .ok (.iload_n 3, 1) := dk_29 (dk_at dksJ2_addAll_0 20 rfl rfl)
theorem dJ2_addAll_21 : decode cJ2_addAll 21 = .ok (.ifCond .ne 5, 3) := dk_154 0 5 (dk_at dksJ2_addAll_0 21 rfl rfl)
theorem dJ2_addAll_24 : decode cJ2_addAll 24 = .ok (.iconst 0, 1) := dk_3 (dk_at dksJ2_addAll_1 0 rfl rfl)
theorem dJ2_addAll_25 : decode cJ2_addAll 25 = .ok (.ireturn, 1) := dk_172 (dk_at dksJ2_addAll_1 1 rfl rfl)
theorem dJ2_addAll_26 : decode cJ2_addAll 26 = .ok (.iload_n 3, 1) := dk_29 (dk_at dksJ2_addAll_1 2 rfl rfl)
theorem dJ2_addAll_27 : decode cJ2_addAll 27 = .ok (.aload_n 0, 1) := dk_42 (dk_at dksJ2_addAll_1 3 rfl rfl)
theorem dJ2_addAll_28 : decode cJ2_addAll 28 = .ok (.getfield 9, 3) := dk_180 0 9 (dk_at dksJ2_addAll_1 4 rfl rfl)
theorem dJ2_addAll_31 : decode cJ2_addAll 31 = .ok (.dup, 1) := dk_89 (dk_at dksJ2_addAll_1 7 rfl rfl)
theorem dJ2_addAll_32 : decode cJ2_addAll 32 = .ok (.astore 4, 2) := dk_58 4 (dk_at dksJ2_addAll_1 8 rfl rfl)
theorem dJ2_addAll_34 : decode cJ2_addAll 34 = .ok (.arraylength, 1) := dk_190 (dk_at dksJ2_addAll_1 10 rfl rfl)
theorem dJ2_addAll_35 : decode cJ2_addAll 35 = .ok (.aload_n 0, 1) := dk_42 (dk_at dksJ2_addAll_1 11 rfl rfl)
theorem dJ2_addAll_36 : decode cJ2_addAll 36 = .ok (.getfield 48, 3) := dk_180 0 48 (dk_at dksJ2_addAll_1 12 rfl rfl)
theorem dJ2_addAll_39 : decode cJ2_addAll 39 = .ok (.dup, 1) := dk_89 (dk_at dksJ2_addAll_1 15 rfl rfl)
theorem dJ2_addAll_40 : decode cJ2_addAll 40 = .ok (.istore 5, 2) := dk_54 5 (dk_at dksJ2_addAll_1 16 rfl rfl)
theorem dJ2_addAll_42 : decode cJ2_addAll 42 = .ok (.isub, 1) := dk_100 (dk_at dksJ2_addAll_1 18 rfl rfl)
theorem dJ2_addAll_43 : decode cJ2_addAll 43 = .ok (.if_icmp .le 13, 3) := dk_164 0 13 (dk_at dksJ2_addAll_1 19 rfl rfl)
theorem dJ2_addAll_46 : decode cJ2_addAll 46 = .ok (.aload_n 0, 1) := dk_42 (dk_at dksJ2_addAll_1 22 rfl rfl)
theorem dJ2_addAll_47 : decode cJ2_addAll 47 = .ok (.iload 5, 2) := dk_21 5 (dk_at dksJ2_addAll_2 0 rfl rfl)
theorem dJ2_addAll_49 : decode cJ2_addAll 49 = .ok (.iload_n 3, 1) := dk_29 (dk_at dksJ2_addAll_2 2 rfl rfl)
theorem dJ2_addAll_50 : decode cJ2_addAll 50 = .ok (.iadd, 1) := dk_96 (dk_at dksJ2_addAll_2 3 rfl rfl)
theorem dJ2_addAll_51 : decode cJ2_addAll 51 = .ok (.invokevirtual 69, 3) := dk_182 0 69 (dk_at dksJ2_addAll_2 4 rfl rfl)
theorem dJ2_addAll_54 : decode cJ2_addAll 54 = .ok (.astore 4, 2) := dk_58 4 (dk_at dksJ2_addAll_2 7 rfl rfl)
theorem dJ2_addAll_56 : decode cJ2_addAll 56 = .ok (.aload_n 2, 1) := dk_44 (dk_at dksJ2_addAll_2 9 rfl rfl)
theorem dJ2_addAll_57 : decode cJ2_addAll 57 = .ok (.iconst 0, 1) := dk_3 (dk_at dksJ2_addAll_2 10 rfl rfl)
theorem dJ2_addAll_58 : decode cJ2_addAll 58 = .ok (.aload 4, 2) := dk_25 4 (dk_at dksJ2_addAll_2 11 rfl rfl)
theorem dJ2_addAll_60 : decode cJ2_addAll 60 = .ok (.iload 5, 2) := dk_21 5 (dk_at dksJ2_addAll_2 13 rfl rfl)
theorem dJ2_addAll_62 : decode cJ2_addAll 62 = .ok (.iload_n 3, 1) := dk_29 (dk_at dksJ2_addAll_2 15 rfl rfl)
theorem dJ2_addAll_63 : decode cJ2_addAll 63 = .ok (.invokestatic 112, 3) := dk_184 0 112 (dk_at dksJ2_addAll_2 16 rfl rfl)
theorem dJ2_addAll_66 : decode cJ2_addAll 66 = .ok (.aload_n 0, 1) := dk_42 (dk_at dksJ2_addAll_2 19 rfl rfl)
theorem dJ2_addAll_67 : decode cJ2_addAll 67 = .ok (.iload 5, 2) := dk_21 5 (dk_at dksJ2_addAll_2 20 rfl rfl)
theorem dJ2_addAll_69 : decode cJ2_addAll 69 = .ok (.iload_n 3, 1) := dk_29 (dk_at dksJ2_addAll_2 22 rfl rfl)
theorem dJ2_addAll_70 : decode cJ2_addAll 70 = .ok (.iadd, 1) := dk_96 (dk_at dksJ2_addAll_2 23 rfl rfl)
theorem dJ2_addAll_71 : decode cJ2_addAll 71 = .ok (.putfield 48, 3) := dk_181 0 48 (dk_at dksJ2_addAll_3 0 rfl rfl)
theorem dJ2_addAll_74 : decode cJ2_addAll 74 = .ok (.iconst 1, 1) := dk_4 (dk_at dksJ2_addAll_3 3 rfl rfl)
theorem dJ2_addAll_75 : decode cJ2_addAll 75 = .ok (.ireturn, 1) := dk_172 (dk_at dksJ2_addAll_3 4 rfl rfl)
def dkwJ2_toArray_0 : List UInt8 := [42, 180, 0, 9, 42, 180, 0, 48, 184, 0, 66, 176]
abbrev dktJ2_toArray_0 : List UInt8 := dkwJ2_toArray_0 ++ []
theorem dksJ2_toArray_0 : cJ2_toArray.data.toList.drop 0 = dktJ2_toArray_0 := by decide +kernel
theorem dJ2_toArray_0 : decode cJ2_toArray 0 = .ok (.aload_n 0, 1) := dk_42 (dk_at dksJ2_toArray_0 0 rfl rfl)
theorem dJ2_toArray_1 : decode cJ2_toArray 1 = .ok (.getfield 9, 3) := dk_180 0 9 (dk_at dksJ2_toArray_0 1 rfl rfl)
theorem dJ2_toArray_4 : decode cJ2_toArray 4 = .ok (.aload_n 0, 1) := dk_42 (dk_at dksJ2_toArray_0 4 rfl rfl)
theorem dJ2_toArray_5 : decode cJ2_toArray 5 = .ok (.getfield 48, 3) := dk_180 0 48 (dk_at dksJ2_toArray_0 5 rfl rfl)
theorem dJ2_toArray_8 : decode cJ2_toArray 8 = .ok (.invokestatic 66, 3) := dk_184 0 66 (dk_at dksJ2_toArray_0 8 rfl rfl)
theorem dJ2_toArray_11 : decode cJ2_toArray 11 = .ok (.areturn, 1) := dk_176 (dk_at dksJ2_toArray_0 11 rfl rfl)
def dkwJ2_grow_2 : List UInt8 := [27, 184, 0, 79, 189, 0, 7, 90, 181, 0, 9, 176]
abbrev dktJ2_grow_2 : List UInt8 := dkwJ2_grow_2 ++ []
def dkwJ2_grow_1 : List UInt8 := [28, 4, 122, 184, 0, 73, 62, 42, 42, 180, 0, 9, 29, 184, 0, 66, 90, 181, 0, 9, 176, 42, 16, 10]
abbrev dktJ2_grow_1 : List UInt8 := dkwJ2_grow_1 ++ dktJ2_grow_2
def dkwJ2_grow_0 : List UInt8 := [42, 180, 0, 9, 190, 61, 28, 157, 0, 13, 42, 180, 0, 9, 178, 0, 39, 165, 0, 28, 28, 27, 28, 100]
abbrev dktJ2_grow_0 : List UInt8 := dkwJ2_grow_0 ++ dktJ2_grow_1
theorem dksJ2_grow_0 : cJ2_grow.data.toList.drop 0 = dktJ2_grow_0 := by decide +kernel
theorem dksJ2_grow_1 : cJ2_grow.data.toList.drop 24 = dktJ2_grow_1 := dk_seg dksJ2_grow_0 24 rfl rfl
theorem dksJ2_grow_2 : cJ2_grow.data.toList.drop 48 = dktJ2_grow_2 := dk_seg dksJ2_grow_1 24 rfl rfl
theorem dJ2_grow_0 : decode cJ2_grow 0 = .ok (.aload_n 0, 1) := dk_42 (dk_at dksJ2_grow_0 0 rfl rfl)
theorem dJ2_grow_1 : decode cJ2_grow 1 = .ok (.getfield 9, 3) := dk_180 0 9 (dk_at dksJ2_grow_0 1 rfl rfl)
theorem dJ2_grow_4 : decode cJ2_grow 4 = .ok (.arraylength, 1) := dk_190 (dk_at dksJ2_grow_0 4 rfl rfl)
theorem dJ2_grow_5 : decode cJ2_grow 5 = .ok (.istore_n 2, 1) := dk_61 (dk_at dksJ2_grow_0 5 rfl rfl)
theorem dJ2_grow_6 : decode cJ2_grow 6 = .ok (.iload_n 2, 1) := dk_28 (dk_at dksJ2_grow_0 6 rfl rfl)
theorem dJ2_grow_7 : decode cJ2_grow 7 = .ok (.ifCond .gt 13, 3) := dk_157 0 13 (dk_at dksJ2_grow_0 7 rfl rfl)
theorem dJ2_grow_10 : decode cJ2_grow 10 = .ok (.aload_n 0, 1) := dk_42 (dk_at dksJ2_grow_0 10 rfl rfl)
theorem dJ2_grow_11 : decode cJ2_grow 11 = .ok (.getfield 9, 3) := dk_180 0 9 (dk_at dksJ2_grow_0 11 rfl rfl)
theorem dJ2_grow_14 : decode cJ2_grow 14 = .ok (.getstatic 39, 3) := dk_178 0 39 (dk_at dksJ2_grow_0 14 rfl rfl)
theorem dJ2_grow_17 : decode cJ2_grow 17 = .ok (.if_acmp .eq 28, 3) := dk_165 0 28 (dk_at dksJ2_grow_0 17 rfl rfl)
theorem dJ2_grow_20 : decode cJ2_grow 20 = .ok (.iload_n 2, 1) := dk_28 (dk_at dksJ2_grow_0 20 rfl rfl)
theorem dJ2_grow_21 : decode cJ2_grow 21 = .ok (.iload_n 1, 1) := dk_27 (dk_at dksJ2_grow_0 21 rfl rfl)
theorem dJ2_grow_22 : decode cJ2_grow 22 = .ok (.iload_n 2, 1) := dk_28 (dk_at dksJ2_grow_0 22 rfl rfl)
theorem dJ2_grow_23 : decode cJ2_grow 23 = .ok (.isub, 1) := dk_100 (dk_at dksJ2_grow_0 23 rfl rfl)
theorem dJ2_grow_24 : decode cJ2_grow 24 = .ok (.iload_n 2, 1) := dk_28 (dk_at dksJ2_grow_1 0 rfl rfl)
theorem dJ2_grow_25 : decode cJ2_grow 25 = .ok (.iconst 1, 1) := dk_4 (dk_at dksJ2_grow_1 1 rfl rfl)
theorem dJ2_grow_26 : decode cJ2_grow 26 = .ok (.ishr, 1) := dk_122 (dk_at dksJ2_grow_1 2 rfl rfl)
theorem dJ2_grow_27 : decode cJ2_grow 27 = .ok (.invokestatic 73, 3) := dk_184 0 73 (dk_at dksJ2_grow_1 3 rfl rfl)
theorem dJ2_grow_30 : decode cJ2_grow 30 = .ok (.istore_n 3, 1) := dk_62 (dk_at dksJ2_grow_1 6 rfl rfl)
theorem dJ2_grow_31 : decode cJ2_grow 31 = .ok (.aload_n 0, 1) := dk_42 (dk_at dksJ2_grow_1 7 rfl rfl)
theorem dJ2_grow_32 : decode cJ2_grow 32 = .ok (.aload_n 0, 1) := dk_42 (dk_at dksJ2_grow_1 8 rfl rfl)
theorem dJ2_grow_33 : decode cJ2_grow 33 = .ok (.getfield 9, 3) := dk_180 0 9 (dk_at dksJ2_grow_1 9 rfl rfl)
theorem dJ2_grow_36 : decode cJ2_grow 36 = .ok (.iload_n 3, 1) := dk_29 (dk_at dksJ2_grow_1 12 rfl rfl)
theorem dJ2_grow_37 : decode cJ2_grow 37 = .ok (.invokestatic 66, 3) := dk_184 0 66 (dk_at dksJ2_grow_1 13 rfl rfl)
theorem dJ2_grow_40 : decode cJ2_grow 40 = .ok (.dup_x1, 1) := dk_90 (dk_at dksJ2_grow_1 16 rfl rfl)
theorem dJ2_grow_41 : decode cJ2_grow 41 = .ok (.putfield 9, 3) := dk_181 0 9 (dk_at dksJ2_grow_1 17 rfl rfl)
theorem dJ2_grow_44 : decode cJ2_grow 44 = .ok (.areturn, 1) := dk_176 (dk_at dksJ2_grow_1 20 rfl rfl)
theorem dJ2_grow_45 : decode cJ2_grow 45 = .ok (.aload_n 0, 1) := dk_42 (dk_at dksJ2_grow_1 21 rfl rfl)
theorem dJ2_grow_46 : decode cJ2_grow 46 = .ok (.bipush 10, 2) := dk_16 10 (dk_at dksJ2_grow_1 22 rfl rfl)
theorem dJ2_grow_48 : decode cJ2_grow 48 = .ok (.iload_n 1, 1) := dk_27 (dk_at dksJ2_grow_2 0 rfl rfl)
theorem dJ2_grow_49 : decode cJ2_grow 49 = .ok (.invokestatic 79, 3) := dk_184 0 79 (dk_at dksJ2_grow_2 1 rfl rfl)
theorem dJ2_grow_52 : decode cJ2_grow 52 = .ok (.anewarray 7, 3) := dk_189 0 7 (dk_at dksJ2_grow_2 4 rfl rfl)
theorem dJ2_grow_55 : decode cJ2_grow 55 = .ok (.dup_x1, 1) := dk_90 (dk_at dksJ2_grow_2 7 rfl rfl)
theorem dJ2_grow_56 : decode cJ2_grow 56 = .ok (.putfield 9, 3) := dk_181 0 9 (dk_at dksJ2_grow_2 8 rfl rfl)
theorem dJ2_grow_59 : decode cJ2_grow 59 = .ok (.areturn, 1) := dk_176 (dk_at dksJ2_grow_2 11 rfl rfl)
theorem dJ2_size_0 : decode cJ2_size 0 = .ok (.aload_n 0, 1) := by decide +kernel
theorem dJ2_size_1 : decode cJ2_size 1 = .ok (.getfield 48, 3) := by decide +kernel
theorem dJ2_size_4 : decode cJ2_size 4 = .ok (.ireturn, 1) := by decide +kernel
def dkwJ2_add_1 : List UInt8 := [172]
abbrev dktJ2_add_1 : List UInt8 := dkwJ2_add_1 ++ []
def dkwJ2_add_0 : List UInt8 := [42, 89, 180, 0, 63, 4, 96, 181, 0, 63, 42, 43, 42, 180, 0, 9, 42, 180, 0, 48, 182, 0, 131, 4]
abbrev dktJ2_add_0 : List UInt8 := dkwJ2_add_0 ++ dktJ2_add_1
theorem dksJ2_add_0 : cJ2_add.data.toList.drop 0 = dktJ2_add_0 := by decide +kernel
theorem dksJ2_add_1 : cJ2_add.data.toList.drop 24 = dktJ2_add_1 := dk_seg dksJ2_add_0 24 rfl rfl
theorem dJ2_add_0 : decode cJ2_add 0 = .ok (.aload_n 0, 1) := dk_42 (dk_at dksJ2_add_0 0 rfl rfl)
theorem dJ2_add_1 : decode cJ2_add 1 = .ok (.dup, 1) := dk_89 (dk_at dksJ2_add_0 1 rfl rfl)
theorem dJ2_add_2 : decode cJ2_add 2 = .ok (.getfield 63, 3) := dk_180 0 63 (dk_at dksJ2_add_0 2 rfl rfl)
theorem dJ2_add_5 : decode cJ2_add 5 = .ok (.iconst 1, 1) := dk_4 (dk_at dksJ2_add_0 5 rfl rfl)
theorem dJ2_add_6 : decode cJ2_add 6 = .ok (.iadd, 1) := dk_96 (dk_at dksJ2_add_0 6 rfl rfl)
theorem dJ2_add_7 : decode cJ2_add 7 = .ok (.putfield 63, 3) := dk_181 0 63 (dk_at dksJ2_add_0 7 rfl rfl)
theorem dJ2_add_10 : decode cJ2_add 10 = .ok (.aload_n 0, 1) := dk_42 (dk_at dksJ2_add_0 10 rfl rfl)
theorem dJ2_add_11 : decode cJ2_add 11 = .ok (.aload_n 1, 1) := dk_43 (dk_at dksJ2_add_0 11 rfl rfl)
theorem dJ2_add_12 : decode cJ2_add 12 = .ok (.aload_n 0, 1) := dk_42 (dk_at dksJ2_add_0 12 rfl rfl)
theorem dJ2_add_13 : decode cJ2_add 13 = .ok (.getfield 9, 3) := dk_180 0 9 (dk_at dksJ2_add_0 13 rfl rfl)
theorem dJ2_add_16 : decode cJ2_add 16 = .ok (.aload_n 0, 1) := dk_42 (dk_at dksJ2_add_0 16 rfl rfl)
theorem dJ2_add_17 : decode cJ2_add 17 = .ok (.getfield 48, 3) := dk_180 0 48 (dk_at dksJ2_add_0 17 rfl rfl)
theorem dJ2_add_20 : decode cJ2_add 20 = .ok (.invokevirtual 131, 3) := dk_182 0 131 (dk_at dksJ2_add_0 20 rfl rfl)
theorem dJ2_add_23 : decode cJ2_add 23 = .ok (.iconst 1, 1) := dk_4 (dk_at dksJ2_add_0 23 rfl rfl)
theorem dJ2_add_24 : decode cJ2_add 24 = .ok (.ireturn, 1) := dk_172 (dk_at dksJ2_add_1 0 rfl rfl)
def dkwJ2_add_2_0 : List UInt8 := [29, 44, 190, 160, 0, 8, 42, 182, 0, 129, 77, 44, 29, 43, 83, 42, 29, 4, 96, 181, 0, 48, 177]
abbrev dktJ2_add_2_0 : List UInt8 := dkwJ2_add_2_0 ++ []
theorem dksJ2_add_2_0 : cJ2_add_2.data.toList.drop 0 = dktJ2_add_2_0 := by decide +kernel
theorem dJ2_add_2_0 : decode cJ2_add_2 0 = .ok (.iload_n 3, 1) := dk_29 (dk_at dksJ2_add_2_0 0 rfl rfl)
theorem dJ2_add_2_1 : decode cJ2_add_2 1 = .ok (.aload_n 2, 1) := dk_44 (dk_at dksJ2_add_2_0 1 rfl rfl)
theorem dJ2_add_2_2 : decode cJ2_add_2 2 = .ok (.arraylength, 1) := dk_190 (dk_at dksJ2_add_2_0 2 rfl rfl)
theorem dJ2_add_2_3 : decode cJ2_add_2 3 = .ok (.if_icmp .ne 8, 3) := dk_160 0 8 (dk_at dksJ2_add_2_0 3 rfl rfl)
theorem dJ2_add_2_6 : decode cJ2_add_2 6 = .ok (.aload_n 0, 1) := dk_42 (dk_at dksJ2_add_2_0 6 rfl rfl)
theorem dJ2_add_2_7 : decode cJ2_add_2 7 = .ok (.invokevirtual 129, 3) := dk_182 0 129 (dk_at dksJ2_add_2_0 7 rfl rfl)
theorem dJ2_add_2_10 : decode cJ2_add_2 10 = .ok (.astore_n 2, 1) := dk_77 (dk_at dksJ2_add_2_0 10 rfl rfl)
theorem dJ2_add_2_11 : decode cJ2_add_2 11 = .ok (.aload_n 2, 1) := dk_44 (dk_at dksJ2_add_2_0 11 rfl rfl)
theorem dJ2_add_2_12 : decode cJ2_add_2 12 = .ok (.iload_n 3, 1) := dk_29 (dk_at dksJ2_add_2_0 12 rfl rfl)
theorem dJ2_add_2_13 : decode cJ2_add_2 13 = .ok (.aload_n 1, 1) := dk_43 (dk_at dksJ2_add_2_0 13 rfl rfl)
theorem dJ2_add_2_14 : decode cJ2_add_2 14 = .ok (.aastore, 1) := dk_83 (dk_at dksJ2_add_2_0 14 rfl rfl)
theorem dJ2_add_2_15 : decode cJ2_add_2 15 = .ok (.aload_n 0, 1) := dk_42 (dk_at dksJ2_add_2_0 15 rfl rfl)
theorem dJ2_add_2_16 : decode cJ2_add_2 16 = .ok (.iload_n 3, 1) := dk_29 (dk_at dksJ2_add_2_0 16 rfl rfl)
theorem dJ2_add_2_17 : decode cJ2_add_2 17 = .ok (.iconst 1, 1) := dk_4 (dk_at dksJ2_add_2_0 17 rfl rfl)
theorem dJ2_add_2_18 : decode cJ2_add_2 18 = .ok (.iadd, 1) := dk_96 (dk_at dksJ2_add_2_0 18 rfl rfl)
theorem dJ2_add_2_19 : decode cJ2_add_2 19 = .ok (.putfield 48, 3) := dk_181 0 48 (dk_at dksJ2_add_2_0 19 rfl rfl)
theorem dJ2_add_2_22 : decode cJ2_add_2 22 = .ok (.return_, 1) := dk_177 (dk_at dksJ2_add_2_0 22 rfl rfl)
def dkwJ2_grow_2_0 : List UInt8 := [42, 42, 180, 0, 48, 4, 96, 182, 0, 69, 176]
abbrev dktJ2_grow_2_0 : List UInt8 := dkwJ2_grow_2_0 ++ []
theorem dksJ2_grow_2_0 : cJ2_grow_2.data.toList.drop 0 = dktJ2_grow_2_0 := by decide +kernel
theorem dJ2_grow_2_0 : decode cJ2_grow_2 0 = .ok (.aload_n 0, 1) := dk_42 (dk_at dksJ2_grow_2_0 0 rfl rfl)
theorem dJ2_grow_2_1 : decode cJ2_grow_2 1 = .ok (.aload_n 0, 1) := dk_42 (dk_at dksJ2_grow_2_0 1 rfl rfl)
theorem dJ2_grow_2_2 : decode cJ2_grow_2 2 = .ok (.getfield 48, 3) := dk_180 0 48 (dk_at dksJ2_grow_2_0 2 rfl rfl)
theorem dJ2_grow_2_5 : decode cJ2_grow_2 5 = .ok (.iconst 1, 1) := dk_4 (dk_at dksJ2_grow_2_0 5 rfl rfl)
theorem dJ2_grow_2_6 : decode cJ2_grow_2 6 = .ok (.iadd, 1) := dk_96 (dk_at dksJ2_grow_2_0 6 rfl rfl)
theorem dJ2_grow_2_7 : decode cJ2_grow_2 7 = .ok (.invokevirtual 69, 3) := dk_182 0 69 (dk_at dksJ2_grow_2_0 7 rfl rfl)
theorem dJ2_grow_2_10 : decode cJ2_grow_2 10 = .ok (.areturn, 1) := dk_176 (dk_at dksJ2_grow_2_0 10 rfl rfl)
def dkwJ2_get_0 : List UInt8 := [27, 42, 180, 0, 48, 184, 0, 118, 87, 42, 27, 182, 0, 123, 176]
abbrev dktJ2_get_0 : List UInt8 := dkwJ2_get_0 ++ []
theorem dksJ2_get_0 : cJ2_get.data.toList.drop 0 = dktJ2_get_0 := by decide +kernel
theorem dJ2_get_0 : decode cJ2_get 0 = .ok (.iload_n 1, 1) := dk_27 (dk_at dksJ2_get_0 0 rfl rfl)
theorem dJ2_get_1 : decode cJ2_get 1 = .ok (.aload_n 0, 1) := dk_42 (dk_at dksJ2_get_0 1 rfl rfl)
theorem dJ2_get_2 : decode cJ2_get 2 = .ok (.getfield 48, 3) := dk_180 0 48 (dk_at dksJ2_get_0 2 rfl rfl)
theorem dJ2_get_5 : decode cJ2_get 5 = .ok (.invokestatic 118, 3) := dk_184 0 118 (dk_at dksJ2_get_0 5 rfl rfl)
theorem dJ2_get_8 : decode cJ2_get 8 = .ok (.pop, 1) := dk_87 (dk_at dksJ2_get_0 8 rfl rfl)
theorem dJ2_get_9 : decode cJ2_get 9 = .ok (.aload_n 0, 1) := dk_42 (dk_at dksJ2_get_0 9 rfl rfl)
theorem dJ2_get_10 : decode cJ2_get 10 = .ok (.iload_n 1, 1) := dk_27 (dk_at dksJ2_get_0 10 rfl rfl)
theorem dJ2_get_11 : decode cJ2_get 11 = .ok (.invokevirtual 123, 3) := dk_182 0 123 (dk_at dksJ2_get_0 11 rfl rfl)
theorem dJ2_get_14 : decode cJ2_get 14 = .ok (.areturn, 1) := dk_176 (dk_at dksJ2_get_0 14 rfl rfl)
def dkwJ2_elementData_0 : List UInt8 := [42, 180, 0, 9, 27, 50, 176]
abbrev dktJ2_elementData_0 : List UInt8 := dkwJ2_elementData_0 ++ []
theorem dksJ2_elementData_0 : cJ2_elementData.data.toList.drop 0 = dktJ2_elementData_0 := by decide +kernel
theorem dJ2_elementData_0 : decode cJ2_elementData 0 = .ok (.aload_n 0, 1) := dk_42 (dk_at dksJ2_elementData_0 0 rfl rfl)
theorem dJ2_elementData_1 : decode cJ2_elementData 1 = .ok (.getfield 9, 3) := dk_180 0 9 (dk_at dksJ2_elementData_0 1 rfl rfl)
theorem dJ2_elementData_4 : decode cJ2_elementData 4 = .ok (.iload_n 1, 1) := dk_27 (dk_at dksJ2_elementData_0 4 rfl rfl)
theorem dJ2_elementData_5 : decode cJ2_elementData 5 = .ok (.aaload, 1) := dk_50 (dk_at dksJ2_elementData_0 5 rfl rfl)
theorem dJ2_elementData_6 : decode cJ2_elementData 6 = .ok (.areturn, 1) := dk_176 (dk_at dksJ2_elementData_0 6 rfl rfl)
def dkwX2_init_1 : List UInt8 := [181, 0, 19, 42, 2, 181, 0, 22, 42, 2, 181, 0, 26, 177]
abbrev dktX2_init_1 : List UInt8 := dkwX2_init_1 ++ []
def dkwX2_init_0 : List UInt8 := [42, 43, 181, 0, 3, 42, 183, 0, 9, 42, 17, 0, 240, 188, 4, 181, 0, 15, 42, 17, 0, 240, 188, 4]
abbrev dktX2_init_0 : List UInt8 := dkwX2_init_0 ++ dktX2_init_1
theorem dksX2_init_0 : cX2_init.data.toList.drop 0 = dktX2_init_0 := by decide +kernel
theorem dksX2_init_1 : cX2_init.data.toList.drop 24 = dktX2_init_1 := dk_seg dksX2_init_0 24 rfl rfl
theorem dX2_init_0 : decode cX2_init 0 = .ok (.aload_n 0, 1) := dk_42 (dk_at dksX2_init_0 0 rfl rfl)
theorem dX2_init_1 : decode cX2_init 1 = .ok (.aload_n 1, 1) := dk_43 (dk_at dksX2_init_0 1 rfl rfl)
theorem dX2_init_2 : decode cX2_init 2 = .ok (.putfield 3, 3) := dk_181 0 3 (dk_at dksX2_init_0 2 rfl rfl)
theorem dX2_init_5 : decode cX2_init 5 = .ok (.aload_n 0, 1) := dk_42 (dk_at dksX2_init_0 5 rfl rfl)
theorem dX2_init_6 : decode cX2_init 6 = .ok (.invokespecial 9, 3) := dk_183 0 9 (dk_at dksX2_init_0 6 rfl rfl)
theorem dX2_init_9 : decode cX2_init 9 = .ok (.aload_n 0, 1) := dk_42 (dk_at dksX2_init_0 9 rfl rfl)
theorem dX2_init_10 : decode cX2_init 10 = .ok (.sipush 240, 3) := dk_17 0 240 (dk_at dksX2_init_0 10 rfl rfl)
theorem dX2_init_13 : decode cX2_init 13 = .ok (.newarray .boolean, 2) := dk_188_4 (dk_at dksX2_init_0 13 rfl rfl)
theorem dX2_init_15 : decode cX2_init 15 = .ok (.putfield 15, 3) := dk_181 0 15 (dk_at dksX2_init_0 15 rfl rfl)
theorem dX2_init_18 : decode cX2_init 18 = .ok (.aload_n 0, 1) := dk_42 (dk_at dksX2_init_0 18 rfl rfl)
theorem dX2_init_19 : decode cX2_init 19 = .ok (.sipush 240, 3) := dk_17 0 240 (dk_at dksX2_init_0 19 rfl rfl)
theorem dX2_init_22 : decode cX2_init 22 = .ok (.newarray .boolean, 2) := dk_188_4 (dk_at dksX2_init_0 22 rfl rfl)
theorem dX2_init_24 : decode cX2_init 24 = .ok (.putfield 19, 3) := dk_181 0 19 (dk_at dksX2_init_1 0 rfl rfl)
theorem dX2_init_27 : decode cX2_init 27 = .ok (.aload_n 0, 1) := dk_42 (dk_at dksX2_init_1 3 rfl rfl)
theorem dX2_init_28 : decode cX2_init 28 = .ok (.iconst (-1), 1) := dk_2 (dk_at dksX2_init_1 4 rfl rfl)
theorem dX2_init_29 : decode cX2_init 29 = .ok (.putfield 22, 3) := dk_181 0 22 (dk_at dksX2_init_1 5 rfl rfl)
theorem dX2_init_32 : decode cX2_init 32 = .ok (.aload_n 0, 1) := dk_42 (dk_at dksX2_init_1 8 rfl rfl)
theorem dX2_init_33 : decode cX2_init 33 = .ok (.iconst (-1), 1) := dk_2 (dk_at dksX2_init_1 9 rfl rfl)
theorem dX2_init_34 : decode cX2_init 34 = .ok (.putfield 26, 3) := dk_181 0 26 (dk_at dksX2_init_1 10 rfl rfl)
theorem dX2_init_37 : decode cX2_init 37 = .ok (.return_, 1) := dk_177 (dk_at dksX2_init_1 13 rfl rfl)
def dkwX2_looks_5 : List UInt8 := [180, 0, 30, 180, 0, 34, 28, 182, 0, 46, 192, 0, 50, 182, 0, 55, 132, 2, 255, 167, 255, 204, 177]
abbrev dktX2_looks_5 : List UInt8 := dkwX2_looks_5 ++ []
def dkwX2_looks_4 : List UInt8 := [180, 0, 34, 28, 182, 0, 46, 192, 0, 50, 180, 0, 52, 27, 163, 0, 24, 42, 42, 180, 0, 3]
abbrev dktX2_looks_4 : List UInt8 := dkwX2_looks_4 ++ dktX2_looks_5
def dkwX2_looks_3 : List UInt8 := [180, 0, 30, 180, 0, 34, 182, 0, 40, 4, 100, 61, 28, 155, 0, 54, 42, 180, 0, 3, 180, 0, 30]
abbrev dktX2_looks_3 : List UInt8 := dkwX2_looks_3 ++ dktX2_looks_4
def dkwX2_looks_2 : List UInt8 := [42, 180, 0, 15, 28, 3, 84, 42, 180, 0, 19, 28, 3, 84, 132, 2, 1, 167, 255, 232, 42, 180, 0, 3]
abbrev dktX2_looks_2 : List UInt8 := dkwX2_looks_2 ++ dktX2_looks_3
def dkwX2_looks_1 : List UInt8 := [27, 181, 0, 22, 42, 42, 180, 0, 3, 180, 0, 29, 181, 0, 26, 3, 61, 28, 17, 0, 240, 162, 0, 23]
abbrev dktX2_looks_1 : List UInt8 := dkwX2_looks_1 ++ dktX2_looks_2
def dkwX2_looks_0 : List UInt8 := [42, 180, 0, 22, 27, 160, 0, 18, 42, 180, 0, 26, 42, 180, 0, 3, 180, 0, 29, 160, 0, 4, 177, 42]
abbrev dktX2_looks_0 : List UInt8 := dkwX2_looks_0 ++ dktX2_looks_1
theorem dksX2_looks_0 : cX2_looks.data.toList.drop 0 = dktX2_looks_0 := by decide +kernel
theorem dksX2_looks_1 : cX2_looks.data.toList.drop 24 = dktX2_looks_1 := dk_seg dksX2_looks_0 24 rfl rfl
theorem dksX2_looks_2 : cX2_looks.data.toList.drop 48 = dktX2_looks_2 := dk_seg dksX2_looks_1 24 rfl rfl
theorem dksX2_looks_3 : cX2_looks.data.toList.drop 72 = dktX2_looks_3 := dk_seg dksX2_looks_2 24 rfl rfl
theorem dksX2_looks_4 : cX2_looks.data.toList.drop 95 = dktX2_looks_4 := dk_seg dksX2_looks_3 23 rfl rfl
theorem dksX2_looks_5 : cX2_looks.data.toList.drop 117 = dktX2_looks_5 := dk_seg dksX2_looks_4 22 rfl rfl
theorem dX2_looks_0 : decode cX2_looks 0 = .ok (.aload_n 0, 1) := dk_42 (dk_at dksX2_looks_0 0 rfl rfl)
theorem dX2_looks_1 : decode cX2_looks 1 = .ok (.getfield 22, 3) := dk_180 0 22 (dk_at dksX2_looks_0 1 rfl rfl)
theorem dX2_looks_4 : decode cX2_looks 4 = .ok (.iload_n 1, 1) := dk_27 (dk_at dksX2_looks_0 4 rfl rfl)
theorem dX2_looks_5 : decode cX2_looks 5 = .ok (.if_icmp .ne 18, 3) := dk_160 0 18 (dk_at dksX2_looks_0 5 rfl rfl)
theorem dX2_looks_8 : decode cX2_looks 8 = .ok (.aload_n 0, 1) := dk_42 (dk_at dksX2_looks_0 8 rfl rfl)
theorem dX2_looks_9 : decode cX2_looks 9 = .ok (.getfield 26, 3) := dk_180 0 26 (dk_at dksX2_looks_0 9 rfl rfl)
theorem dX2_looks_12 : decode cX2_looks 12 = .ok (.aload_n 0, 1) := dk_42 (dk_at dksX2_looks_0 12 rfl rfl)
theorem dX2_looks_13 : decode cX2_looks 13 = .ok (.getfield 3, 3) := dk_180 0 3 (dk_at dksX2_looks_0 13 rfl rfl)
theorem dX2_looks_16 : decode cX2_looks 16 = .ok (.getfield 29, 3) := dk_180 0 29 (dk_at dksX2_looks_0 16 rfl rfl)
theorem dX2_looks_19 : decode cX2_looks 19 = .ok (.if_icmp .ne 4, 3) := dk_160 0 4 (dk_at dksX2_looks_0 19 rfl rfl)
theorem dX2_looks_22 : decode cX2_looks 22 = .ok (.return_, 1) := dk_177 (dk_at dksX2_looks_0 22 rfl rfl)
theorem dX2_looks_23 : decode cX2_looks 23 = .ok (.aload_n 0, 1) := dk_42 (dk_at dksX2_looks_0 23 rfl rfl)
theorem dX2_looks_24 : decode cX2_looks 24 = .ok (.iload_n 1, 1) := dk_27 (dk_at dksX2_looks_1 0 rfl rfl)
theorem dX2_looks_25 : decode cX2_looks 25 = .ok (.putfield 22, 3) := dk_181 0 22 (dk_at dksX2_looks_1 1 rfl rfl)
theorem dX2_looks_28 : decode cX2_looks 28 = .ok (.aload_n 0, 1) := dk_42 (dk_at dksX2_looks_1 4 rfl rfl)
theorem dX2_looks_29 : decode cX2_looks 29 = .ok (.aload_n 0, 1) := dk_42 (dk_at dksX2_looks_1 5 rfl rfl)
theorem dX2_looks_30 : decode cX2_looks 30 = .ok (.getfield 3, 3) := dk_180 0 3 (dk_at dksX2_looks_1 6 rfl rfl)
theorem dX2_looks_33 : decode cX2_looks 33 = .ok (.getfield 29, 3) := dk_180 0 29 (dk_at dksX2_looks_1 9 rfl rfl)
theorem dX2_looks_36 : decode cX2_looks 36 = .ok (.putfield 26, 3) := dk_181 0 26 (dk_at dksX2_looks_1 12 rfl rfl)
theorem dX2_looks_39 : decode cX2_looks 39 = .ok (.iconst 0, 1) := dk_3 (dk_at dksX2_looks_1 15 rfl rfl)
theorem dX2_looks_40 : decode cX2_looks 40 = .ok (.istore_n 2, 1) := dk_61 (dk_at dksX2_looks_1 16 rfl rfl)
theorem dX2_looks_41 : decode cX2_looks 41 = .ok (.iload_n 2, 1) := dk_28 (dk_at dksX2_looks_1 17 rfl rfl)
theorem dX2_looks_42 : decode cX2_looks 42 = .ok (.sipush 240, 3) := dk_17 0 240 (dk_at dksX2_looks_1 18 rfl rfl)
theorem dX2_looks_45 : decode cX2_looks 45 = .ok (.if_icmp .ge 23, 3) := dk_162 0 23 (dk_at dksX2_looks_1 21 rfl rfl)
theorem dX2_looks_48 : decode cX2_looks 48 = .ok (.aload_n 0, 1) := dk_42 (dk_at dksX2_looks_2 0 rfl rfl)
theorem dX2_looks_49 : decode cX2_looks 49 = .ok (.getfield 15, 3) := dk_180 0 15 (dk_at dksX2_looks_2 1 rfl rfl)
theorem dX2_looks_52 : decode cX2_looks 52 = .ok (.iload_n 2, 1) := dk_28 (dk_at dksX2_looks_2 4 rfl rfl)
theorem dX2_looks_53 : decode cX2_looks 53 = .ok (.iconst 0, 1) := dk_3 (dk_at dksX2_looks_2 5 rfl rfl)
theorem dX2_looks_54 : decode cX2_looks 54 = .ok (.bastore, 1) := dk_84 (dk_at dksX2_looks_2 6 rfl rfl)
theorem dX2_looks_55 : decode cX2_looks 55 = .ok (.aload_n 0, 1) := dk_42 (dk_at dksX2_looks_2 7 rfl rfl)
theorem dX2_looks_56 : decode cX2_looks 56 = .ok (.getfield 19, 3) := dk_180 0 19 (dk_at dksX2_looks_2 8 rfl rfl)
theorem dX2_looks_59 : decode cX2_looks 59 = .ok (.iload_n 2, 1) := dk_28 (dk_at dksX2_looks_2 11 rfl rfl)
theorem dX2_looks_60 : decode cX2_looks 60 = .ok (.iconst 0, 1) := dk_3 (dk_at dksX2_looks_2 12 rfl rfl)
theorem dX2_looks_61 : decode cX2_looks 61 = .ok (.bastore, 1) := dk_84 (dk_at dksX2_looks_2 13 rfl rfl)
theorem dX2_looks_62 : decode cX2_looks 62 = .ok (.iinc 2 1, 3) := dk_132 2 1 (dk_at dksX2_looks_2 14 rfl rfl)
theorem dX2_looks_65 : decode cX2_looks 65 = .ok (.goto (-24), 3) := dk_167 255 232 (dk_at dksX2_looks_2 17 rfl rfl)
theorem dX2_looks_68 : decode cX2_looks 68 = .ok (.aload_n 0, 1) := dk_42 (dk_at dksX2_looks_2 20 rfl rfl)
theorem dX2_looks_69 : decode cX2_looks 69 = .ok (.getfield 3, 3) := dk_180 0 3 (dk_at dksX2_looks_2 21 rfl rfl)
theorem dX2_looks_72 : decode cX2_looks 72 = .ok (.getfield 30, 3) := dk_180 0 30 (dk_at dksX2_looks_3 0 rfl rfl)
theorem dX2_looks_75 : decode cX2_looks 75 = .ok (.getfield 34, 3) := dk_180 0 34 (dk_at dksX2_looks_3 3 rfl rfl)
theorem dX2_looks_78 : decode cX2_looks 78 = .ok (.invokevirtual 40, 3) := dk_182 0 40 (dk_at dksX2_looks_3 6 rfl rfl)
theorem dX2_looks_81 : decode cX2_looks 81 = .ok (.iconst 1, 1) := dk_4 (dk_at dksX2_looks_3 9 rfl rfl)
theorem dX2_looks_82 : decode cX2_looks 82 = .ok (.isub, 1) := dk_100 (dk_at dksX2_looks_3 10 rfl rfl)
theorem dX2_looks_83 : decode cX2_looks 83 = .ok (.istore_n 2, 1) := dk_61 (dk_at dksX2_looks_3 11 rfl rfl)
theorem dX2_looks_84 : decode cX2_looks 84 = .ok (.iload_n 2, 1) := dk_28 (dk_at dksX2_looks_3 12 rfl rfl)
theorem dX2_looks_85 : decode cX2_looks 85 = .ok (.ifCond .lt 54, 3) := dk_155 0 54 (dk_at dksX2_looks_3 13 rfl rfl)
theorem dX2_looks_88 : decode cX2_looks 88 = .ok (.aload_n 0, 1) := dk_42 (dk_at dksX2_looks_3 16 rfl rfl)
theorem dX2_looks_89 : decode cX2_looks 89 = .ok (.getfield 3, 3) := dk_180 0 3 (dk_at dksX2_looks_3 17 rfl rfl)
theorem dX2_looks_92 : decode cX2_looks 92 = .ok (.getfield 30, 3) := dk_180 0 30 (dk_at dksX2_looks_3 20 rfl rfl)
theorem dX2_looks_95 : decode cX2_looks 95 = .ok (.getfield 34, 3) := dk_180 0 34 (dk_at dksX2_looks_4 0 rfl rfl)
theorem dX2_looks_98 : decode cX2_looks 98 = .ok (.iload_n 2, 1) := dk_28 (dk_at dksX2_looks_4 3 rfl rfl)
theorem dX2_looks_99 : decode cX2_looks 99 = .ok (.invokevirtual 46, 3) := dk_182 0 46 (dk_at dksX2_looks_4 4 rfl rfl)
theorem dX2_looks_102 : decode cX2_looks 102 = .ok (.checkcast 50, 3) := dk_192 0 50 (dk_at dksX2_looks_4 7 rfl rfl)
theorem dX2_looks_105 : decode cX2_looks 105 = .ok (.getfield 52, 3) := dk_180 0 52 (dk_at dksX2_looks_4 10 rfl rfl)
theorem dX2_looks_108 : decode cX2_looks 108 = .ok (.iload_n 1, 1) := dk_27 (dk_at dksX2_looks_4 13 rfl rfl)
theorem dX2_looks_109 : decode cX2_looks 109 = .ok (.if_icmp .gt 24, 3) := dk_163 0 24 (dk_at dksX2_looks_4 14 rfl rfl)
theorem dX2_looks_112 : decode cX2_looks 112 = .ok (.aload_n 0, 1) := dk_42 (dk_at dksX2_looks_4 17 rfl rfl)
theorem dX2_looks_113 : decode cX2_looks 113 = .ok (.aload_n 0, 1) := dk_42 (dk_at dksX2_looks_4 18 rfl rfl)
theorem dX2_looks_114 : decode cX2_looks 114 = .ok (.getfield 3, 3) := dk_180 0 3 (dk_at dksX2_looks_4 19 rfl rfl)
theorem dX2_looks_117 : decode cX2_looks 117 = .ok (.getfield 30, 3) := dk_180 0 30 (dk_at dksX2_looks_5 0 rfl rfl)
theorem dX2_looks_120 : decode cX2_looks 120 = .ok (.getfield 34, 3) := dk_180 0 34 (dk_at dksX2_looks_5 3 rfl rfl)
theorem dX2_looks_123 : decode cX2_looks 123 = .ok (.iload_n 2, 1) := dk_28 (dk_at dksX2_looks_5 6 rfl rfl)
theorem dX2_looks_124 : decode cX2_looks 124 = .ok (.invokevirtual 46, 3) := dk_182 0 46 (dk_at dksX2_looks_5 7 rfl rfl)
theorem dX2_looks_127 : decode cX2_looks 127 = .ok (.checkcast 50, 3) := dk_192 0 50 (dk_at dksX2_looks_5 10 rfl rfl)
theorem dX2_looks_130 : decode cX2_looks 130 = .ok (.invokevirtual 55, 3) := dk_182 0 55 (dk_at dksX2_looks_5 13 rfl rfl)
theorem dX2_looks_133 : decode cX2_looks 133 = .ok (.iinc 2 (-1), 3) := dk_132 2 255 (dk_at dksX2_looks_5 16 rfl rfl)
theorem dX2_looks_136 : decode cX2_looks 136 = .ok (.goto (-52), 3) := dk_167 255 204 (dk_at dksX2_looks_5 19 rfl rfl)
theorem dX2_looks_139 : decode cX2_looks 139 = .ok (.return_, 1) := dk_177 (dk_at dksX2_looks_5 22 rfl rfl)
def dkwX2_goes_4 : List UInt8 := [180, 0, 70, 104, 25, 4, 180, 0, 73, 96, 4, 84, 132, 2, 1, 167, 255, 150, 177]
abbrev dktX2_goes_4 : List UInt8 := dkwX2_goes_4 ++ []
def dkwX2_goes_3 : List UInt8 := [154, 0, 35, 25, 4, 180, 0, 70, 43, 180, 0, 62, 162, 0, 23, 42, 180, 0, 19, 16, 12, 25, 4]
abbrev dktX2_goes_3 : List UInt8 := dkwX2_goes_3 ++ dktX2_goes_4
def dkwX2_goes_2 : List UInt8 := [182, 0, 46, 192, 0, 65, 58, 4, 42, 180, 0, 15, 29, 51, 153, 0, 43, 25, 4, 180, 0, 67]
abbrev dktX2_goes_2 : List UInt8 := dkwX2_goes_2 ++ dktX2_goes_3
def dkwX2_goes_1 : List UInt8 := [180, 0, 15, 29, 42, 180, 0, 19, 29, 51, 154, 0, 7, 4, 167, 0, 4, 3, 84, 43, 180, 0, 59, 28]
abbrev dktX2_goes_1 : List UInt8 := dkwX2_goes_1 ++ dktX2_goes_2
def dkwX2_goes_0 : List UInt8 := [3, 61, 28, 43, 180, 0, 59, 182, 0, 40, 162, 0, 101, 16, 12, 43, 180, 0, 62, 104, 28, 96, 62, 42]
abbrev dktX2_goes_0 : List UInt8 := dkwX2_goes_0 ++ dktX2_goes_1
theorem dksX2_goes_0 : cX2_goes.data.toList.drop 0 = dktX2_goes_0 := by decide +kernel
theorem dksX2_goes_1 : cX2_goes.data.toList.drop 24 = dktX2_goes_1 := dk_seg dksX2_goes_0 24 rfl rfl
theorem dksX2_goes_2 : cX2_goes.data.toList.drop 48 = dktX2_goes_2 := dk_seg dksX2_goes_1 24 rfl rfl
theorem dksX2_goes_3 : cX2_goes.data.toList.drop 70 = dktX2_goes_3 := dk_seg dksX2_goes_2 22 rfl rfl
theorem dksX2_goes_4 : cX2_goes.data.toList.drop 93 = dktX2_goes_4 := dk_seg dksX2_goes_3 23 rfl rfl
theorem dX2_goes_0 : decode cX2_goes 0 = .ok (.iconst 0, 1) := dk_3 (dk_at dksX2_goes_0 0 rfl rfl)
theorem dX2_goes_1 : decode cX2_goes 1 = .ok (.istore_n 2, 1) := dk_61 (dk_at dksX2_goes_0 1 rfl rfl)
theorem dX2_goes_2 : decode cX2_goes 2 = .ok (.iload_n 2, 1) := dk_28 (dk_at dksX2_goes_0 2 rfl rfl)
theorem dX2_goes_3 : decode cX2_goes 3 = .ok (.aload_n 1, 1) := dk_43 (dk_at dksX2_goes_0 3 rfl rfl)
theorem dX2_goes_4 : decode cX2_goes 4 = .ok (.getfield 59, 3) := dk_180 0 59 (dk_at dksX2_goes_0 4 rfl rfl)
theorem dX2_goes_7 : decode cX2_goes 7 = .ok (.invokevirtual 40, 3) := dk_182 0 40 (dk_at dksX2_goes_0 7 rfl rfl)
theorem dX2_goes_10 : decode cX2_goes 10 = .ok (.if_icmp .ge 101, 3) := dk_162 0 101 (dk_at dksX2_goes_0 10 rfl rfl)
theorem dX2_goes_13 : decode cX2_goes 13 = .ok (.bipush 12, 2) := dk_16 12 (dk_at dksX2_goes_0 13 rfl rfl)
theorem dX2_goes_15 : decode cX2_goes 15 = .ok (.aload_n 1, 1) := dk_43 (dk_at dksX2_goes_0 15 rfl rfl)
theorem dX2_goes_16 : decode cX2_goes 16 = .ok (.getfield 62, 3) := dk_180 0 62 (dk_at dksX2_goes_0 16 rfl rfl)
theorem dX2_goes_19 : decode cX2_goes 19 = .ok (.imul, 1) := dk_104 (dk_at dksX2_goes_0 19 rfl rfl)
theorem dX2_goes_20 : decode cX2_goes 20 = .ok (.iload_n 2, 1) := dk_28 (dk_at dksX2_goes_0 20 rfl rfl)
theorem dX2_goes_21 : decode cX2_goes 21 = .ok (.iadd, 1) := dk_96 (dk_at dksX2_goes_0 21 rfl rfl)
theorem dX2_goes_22 : decode cX2_goes 22 = .ok (.istore_n 3, 1) := dk_62 (dk_at dksX2_goes_0 22 rfl rfl)
theorem dX2_goes_23 : decode cX2_goes 23 = .ok (.aload_n 0, 1) := dk_42 (dk_at dksX2_goes_0 23 rfl rfl)
theorem dX2_goes_24 : decode cX2_goes 24 = .ok (.getfield 15, 3) := dk_180 0 15 (dk_at dksX2_goes_1 0 rfl rfl)
theorem dX2_goes_27 : decode cX2_goes 27 = .ok (.iload_n 3, 1) := dk_29 (dk_at dksX2_goes_1 3 rfl rfl)
theorem dX2_goes_28 : decode cX2_goes 28 = .ok (.aload_n 0, 1) := dk_42 (dk_at dksX2_goes_1 4 rfl rfl)
theorem dX2_goes_29 : decode cX2_goes 29 = .ok (.getfield 19, 3) := dk_180 0 19 (dk_at dksX2_goes_1 5 rfl rfl)
theorem dX2_goes_32 : decode cX2_goes 32 = .ok (.iload_n 3, 1) := dk_29 (dk_at dksX2_goes_1 8 rfl rfl)
theorem dX2_goes_33 : decode cX2_goes 33 = .ok (.baload, 1) := dk_51 (dk_at dksX2_goes_1 9 rfl rfl)
theorem dX2_goes_34 : decode cX2_goes 34 = .ok (.ifCond .ne 7, 3) := dk_154 0 7 (dk_at dksX2_goes_1 10 rfl rfl)
theorem dX2_goes_37 : decode cX2_goes 37 = .ok (.iconst 1, 1) := dk_4 (dk_at dksX2_goes_1 13 rfl rfl)
theorem dX2_goes_38 : decode cX2_goes 38 = .ok (.goto 4, 3) := dk_167 0 4 (dk_at dksX2_goes_1 14 rfl rfl)
theorem dX2_goes_41 : decode cX2_goes 41 = .ok (.iconst 0, 1) := dk_3 (dk_at dksX2_goes_1 17 rfl rfl)
theorem dX2_goes_42 : decode cX2_goes 42 = .ok (.bastore, 1) := dk_84 (dk_at dksX2_goes_1 18 rfl rfl)
theorem dX2_goes_43 : decode cX2_goes 43 = .ok (.aload_n 1, 1) := dk_43 (dk_at dksX2_goes_1 19 rfl rfl)
theorem dX2_goes_44 : decode cX2_goes 44 = .ok (.getfield 59, 3) := dk_180 0 59 (dk_at dksX2_goes_1 20 rfl rfl)
theorem dX2_goes_47 : decode cX2_goes 47 = .ok (.iload_n 2, 1) := dk_28 (dk_at dksX2_goes_1 23 rfl rfl)
theorem dX2_goes_48 : decode cX2_goes 48 = .ok (.invokevirtual 46, 3) := dk_182 0 46 (dk_at dksX2_goes_2 0 rfl rfl)
theorem dX2_goes_51 : decode cX2_goes 51 = .ok (.checkcast 65, 3) := dk_192 0 65 (dk_at dksX2_goes_2 3 rfl rfl)
theorem dX2_goes_54 : decode cX2_goes 54 = .ok (.astore 4, 2) := dk_58 4 (dk_at dksX2_goes_2 6 rfl rfl)
theorem dX2_goes_56 : decode cX2_goes 56 = .ok (.aload_n 0, 1) := dk_42 (dk_at dksX2_goes_2 8 rfl rfl)
theorem dX2_goes_57 : decode cX2_goes 57 = .ok (.getfield 15, 3) := dk_180 0 15 (dk_at dksX2_goes_2 9 rfl rfl)
theorem dX2_goes_60 : decode cX2_goes 60 = .ok (.iload_n 3, 1) := dk_29 (dk_at dksX2_goes_2 12 rfl rfl)
theorem dX2_goes_61 : decode cX2_goes 61 = .ok (.baload, 1) := dk_51 (dk_at dksX2_goes_2 13 rfl rfl)
theorem dX2_goes_62 : decode cX2_goes 62 = .ok (.ifCond .eq 43, 3) := dk_153 0 43 (dk_at dksX2_goes_2 14 rfl rfl)
theorem dX2_goes_65 : decode cX2_goes 65 = .ok (.aload 4, 2) := dk_25 4 (dk_at dksX2_goes_2 17 rfl rfl)
theorem dX2_goes_67 : decode cX2_goes 67 = .ok (.getfield 67, 3) := dk_180 0 67 (dk_at dksX2_goes_2 19 rfl rfl)
theorem dX2_goes_70 : decode cX2_goes 70 = .ok (.ifCond .ne 35, 3) := dk_154 0 35 (dk_at dksX2_goes_3 0 rfl rfl)
theorem dX2_goes_73 : decode cX2_goes 73 = .ok (.aload 4, 2) := dk_25 4 (dk_at dksX2_goes_3 3 rfl rfl)
theorem dX2_goes_75 : decode cX2_goes 75 = .ok (.getfield 70, 3) := dk_180 0 70 (dk_at dksX2_goes_3 5 rfl rfl)
theorem dX2_goes_78 : decode cX2_goes 78 = .ok (.aload_n 1, 1) := dk_43 (dk_at dksX2_goes_3 8 rfl rfl)
theorem dX2_goes_79 : decode cX2_goes 79 = .ok (.getfield 62, 3) := dk_180 0 62 (dk_at dksX2_goes_3 9 rfl rfl)
theorem dX2_goes_82 : decode cX2_goes 82 = .ok (.if_icmp .ge 23, 3) := dk_162 0 23 (dk_at dksX2_goes_3 12 rfl rfl)
theorem dX2_goes_85 : decode cX2_goes 85 = .ok (.aload_n 0, 1) := dk_42 (dk_at dksX2_goes_3 15 rfl rfl)
theorem dX2_goes_86 : decode cX2_goes 86 = .ok (.getfield 19, 3) := dk_180 0 19 (dk_at dksX2_goes_3 16 rfl rfl)
theorem dX2_goes_89 : decode cX2_goes 89 = .ok (.bipush 12, 2) := dk_16 12 (dk_at dksX2_goes_3 19 rfl rfl)
theorem dX2_goes_91 : decode cX2_goes 91 = .ok (.aload 4, 2) := dk_25 4 (dk_at dksX2_goes_3 21 rfl rfl)
theorem dX2_goes_93 : decode cX2_goes 93 = .ok (.getfield 70, 3) := dk_180 0 70 (dk_at dksX2_goes_4 0 rfl rfl)
theorem dX2_goes_96 : decode cX2_goes 96 = .ok (.imul, 1) := dk_104 (dk_at dksX2_goes_4 3 rfl rfl)
theorem dX2_goes_97 : decode cX2_goes 97 = .ok (.aload 4, 2) := dk_25 4 (dk_at dksX2_goes_4 4 rfl rfl)
theorem dX2_goes_99 : decode cX2_goes 99 = .ok (.getfield 73, 3) := dk_180 0 73 (dk_at dksX2_goes_4 6 rfl rfl)
theorem dX2_goes_102 : decode cX2_goes 102 = .ok (.iadd, 1) := dk_96 (dk_at dksX2_goes_4 9 rfl rfl)
theorem dX2_goes_103 : decode cX2_goes 103 = .ok (.iconst 1, 1) := dk_4 (dk_at dksX2_goes_4 10 rfl rfl)
theorem dX2_goes_104 : decode cX2_goes 104 = .ok (.bastore, 1) := dk_84 (dk_at dksX2_goes_4 11 rfl rfl)
theorem dX2_goes_105 : decode cX2_goes 105 = .ok (.iinc 2 1, 3) := dk_132 2 1 (dk_at dksX2_goes_4 12 rfl rfl)
theorem dX2_goes_108 : decode cX2_goes 108 = .ok (.goto (-106), 3) := dk_167 255 150 (dk_at dksX2_goes_4 15 rfl rfl)
theorem dX2_goes_111 : decode cX2_goes 111 = .ok (.return_, 1) := dk_177 (dk_at dksX2_goes_4 18 rfl rfl)
def dkwX3_init_1 : List UInt8 := [8, 188, 4, 181, 0, 20, 177]
abbrev dktX3_init_1 : List UInt8 := dkwX3_init_1 ++ []
def dkwX3_init_0 : List UInt8 := [42, 183, 0, 1, 42, 187, 0, 7, 89, 183, 0, 9, 181, 0, 10, 42, 16, 11, 188, 11, 181, 0, 16, 42]
abbrev dktX3_init_0 : List UInt8 := dkwX3_init_0 ++ dktX3_init_1
theorem dksX3_init_0 : cX3_init.data.toList.drop 0 = dktX3_init_0 := by decide +kernel
theorem dksX3_init_1 : cX3_init.data.toList.drop 24 = dktX3_init_1 := dk_seg dksX3_init_0 24 rfl rfl
theorem dX3_init_0 : decode cX3_init 0 = .ok (.aload_n 0, 1) := dk_42 (dk_at dksX3_init_0 0 rfl rfl)
theorem dX3_init_1 : decode cX3_init 1 = .ok (.invokespecial 1, 3) := dk_183 0 1 (dk_at dksX3_init_0 1 rfl rfl)
theorem dX3_init_4 : decode cX3_init 4 = .ok (.aload_n 0, 1) := dk_42 (dk_at dksX3_init_0 4 rfl rfl)
theorem dX3_init_5 : decode cX3_init 5 = .ok (.new 7, 3) := dk_187 0 7 (dk_at dksX3_init_0 5 rfl rfl)
theorem dX3_init_8 : decode cX3_init 8 = .ok (.dup, 1) := dk_89 (dk_at dksX3_init_0 8 rfl rfl)
theorem dX3_init_9 : decode cX3_init 9 = .ok (.invokespecial 9, 3) := dk_183 0 9 (dk_at dksX3_init_0 9 rfl rfl)
theorem dX3_init_12 : decode cX3_init 12 = .ok (.putfield 10, 3) := dk_181 0 10 (dk_at dksX3_init_0 12 rfl rfl)
theorem dX3_init_15 : decode cX3_init 15 = .ok (.aload_n 0, 1) := dk_42 (dk_at dksX3_init_0 15 rfl rfl)
theorem dX3_init_16 : decode cX3_init 16 = .ok (.bipush 11, 2) := dk_16 11 (dk_at dksX3_init_0 16 rfl rfl)
theorem dX3_init_18 : decode cX3_init 18 = .ok (.newarray .long, 2) := dk_188_11 (dk_at dksX3_init_0 18 rfl rfl)
theorem dX3_init_20 : decode cX3_init 20 = .ok (.putfield 16, 3) := dk_181 0 16 (dk_at dksX3_init_0 20 rfl rfl)
theorem dX3_init_23 : decode cX3_init 23 = .ok (.aload_n 0, 1) := dk_42 (dk_at dksX3_init_0 23 rfl rfl)
theorem dX3_init_24 : decode cX3_init 24 = .ok (.iconst 5, 1) := dk_8 (dk_at dksX3_init_1 0 rfl rfl)
theorem dX3_init_25 : decode cX3_init 25 = .ok (.newarray .boolean, 2) := dk_188_4 (dk_at dksX3_init_1 1 rfl rfl)
theorem dX3_init_27 : decode cX3_init 27 = .ok (.putfield 20, 3) := dk_181 0 20 (dk_at dksX3_init_1 3 rfl rfl)
theorem dX3_init_30 : decode cX3_init 30 = .ok (.return_, 1) := dk_177 (dk_at dksX3_init_1 6 rfl rfl)
def dkwX3_empties_2 : List UInt8 := [177]
abbrev dktX3_empties_2 : List UInt8 := dkwX3_empties_2 ++ []
def dkwX3_empties_1 : List UInt8 := [3, 60, 27, 42, 180, 0, 20, 190, 162, 0, 16, 42, 180, 0, 20, 27, 3, 84, 132, 1, 1, 167, 255, 237]
abbrev dktX3_empties_1 : List UInt8 := dkwX3_empties_1 ++ dktX3_empties_2
def dkwX3_empties_0 : List UInt8 := [3, 60, 27, 42, 180, 0, 16, 190, 162, 0, 16, 42, 180, 0, 16, 27, 9, 80, 132, 1, 1, 167, 255, 237]
abbrev dktX3_empties_0 : List UInt8 := dkwX3_empties_0 ++ dktX3_empties_1
theorem dksX3_empties_0 : cX3_empties.data.toList.drop 0 = dktX3_empties_0 := by decide +kernel
theorem dksX3_empties_1 : cX3_empties.data.toList.drop 24 = dktX3_empties_1 := dk_seg dksX3_empties_0 24 rfl rfl
theorem dksX3_empties_2 : cX3_empties.data.toList.drop 48 = dktX3_empties_2 := dk_seg dksX3_empties_1 24 rfl rfl
theorem dX3_empties_0 : decode cX3_empties 0 = .ok (.iconst 0, 1) := dk_3 (dk_at dksX3_empties_0 0 rfl rfl)
theorem dX3_empties_1 : decode cX3_empties 1 = .ok (.istore_n 1, 1) := dk_60 (dk_at dksX3_empties_0 1 rfl rfl)
theorem dX3_empties_2 : decode cX3_empties 2 = .ok (.iload_n 1, 1) := dk_27 (dk_at dksX3_empties_0 2 rfl rfl)
theorem dX3_empties_3 : decode cX3_empties 3 = .ok (.aload_n 0, 1) := dk_42 (dk_at dksX3_empties_0 3 rfl rfl)
theorem dX3_empties_4 : decode cX3_empties 4 = .ok (.getfield 16, 3) := dk_180 0 16 (dk_at dksX3_empties_0 4 rfl rfl)
theorem dX3_empties_7 : decode cX3_empties 7 = .ok (.arraylength, 1) := dk_190 (dk_at dksX3_empties_0 7 rfl rfl)
theorem dX3_empties_8 : decode cX3_empties 8 = .ok (.if_icmp .ge 16, 3) := dk_162 0 16 (dk_at dksX3_empties_0 8 rfl rfl)
theorem dX3_empties_11 : decode cX3_empties 11 = .ok (.aload_n 0, 1) := dk_42 (dk_at dksX3_empties_0 11 rfl rfl)
theorem dX3_empties_12 : decode cX3_empties 12 = .ok (.getfield 16, 3) := dk_180 0 16 (dk_at dksX3_empties_0 12 rfl rfl)
theorem dX3_empties_15 : decode cX3_empties 15 = .ok (.iload_n 1, 1) := dk_27 (dk_at dksX3_empties_0 15 rfl rfl)
theorem dX3_empties_16 : decode cX3_empties 16 = .ok (.lconst 0, 1) := dk_9 (dk_at dksX3_empties_0 16 rfl rfl)
theorem dX3_empties_17 : decode cX3_empties 17 = .ok (.lastore, 1) := dk_80 (dk_at dksX3_empties_0 17 rfl rfl)
theorem dX3_empties_18 : decode cX3_empties 18 = .ok (.iinc 1 1, 3) := dk_132 1 1 (dk_at dksX3_empties_0 18 rfl rfl)
theorem dX3_empties_21 : decode cX3_empties 21 = .ok (.goto (-19), 3) := dk_167 255 237 (dk_at dksX3_empties_0 21 rfl rfl)
theorem dX3_empties_24 : decode cX3_empties 24 = .ok (.iconst 0, 1) := dk_3 (dk_at dksX3_empties_1 0 rfl rfl)
theorem dX3_empties_25 : decode cX3_empties 25 = .ok (.istore_n 1, 1) := dk_60 (dk_at dksX3_empties_1 1 rfl rfl)
theorem dX3_empties_26 : decode cX3_empties 26 = .ok (.iload_n 1, 1) := dk_27 (dk_at dksX3_empties_1 2 rfl rfl)
theorem dX3_empties_27 : decode cX3_empties 27 = .ok (.aload_n 0, 1) := dk_42 (dk_at dksX3_empties_1 3 rfl rfl)
theorem dX3_empties_28 : decode cX3_empties 28 = .ok (.getfield 20, 3) := dk_180 0 20 (dk_at dksX3_empties_1 4 rfl rfl)
theorem dX3_empties_31 : decode cX3_empties 31 = .ok (.arraylength, 1) := dk_190 (dk_at dksX3_empties_1 7 rfl rfl)
theorem dX3_empties_32 : decode cX3_empties 32 = .ok (.if_icmp .ge 16, 3) := dk_162 0 16 (dk_at dksX3_empties_1 8 rfl rfl)
theorem dX3_empties_35 : decode cX3_empties 35 = .ok (.aload_n 0, 1) := dk_42 (dk_at dksX3_empties_1 11 rfl rfl)
theorem dX3_empties_36 : decode cX3_empties 36 = .ok (.getfield 20, 3) := dk_180 0 20 (dk_at dksX3_empties_1 12 rfl rfl)
theorem dX3_empties_39 : decode cX3_empties 39 = .ok (.iload_n 1, 1) := dk_27 (dk_at dksX3_empties_1 15 rfl rfl)
theorem dX3_empties_40 : decode cX3_empties 40 = .ok (.iconst 0, 1) := dk_3 (dk_at dksX3_empties_1 16 rfl rfl)
theorem dX3_empties_41 : decode cX3_empties 41 = .ok (.bastore, 1) := dk_84 (dk_at dksX3_empties_1 17 rfl rfl)
theorem dX3_empties_42 : decode cX3_empties 42 = .ok (.iinc 1 1, 3) := dk_132 1 1 (dk_at dksX3_empties_1 18 rfl rfl)
theorem dX3_empties_45 : decode cX3_empties 45 = .ok (.goto (-19), 3) := dk_167 255 237 (dk_at dksX3_empties_1 21 rfl rfl)
theorem dX3_empties_48 : decode cX3_empties 48 = .ok (.return_, 1) := dk_177 (dk_at dksX3_empties_2 0 rfl rfl)
def dkwJ3_init_1 : List UInt8 := [182, 0, 27, 87, 177]
abbrev dktJ3_init_1 : List UInt8 := dkwJ3_init_1 ++ []
def dkwJ3_init_0 : List UInt8 := [42, 183, 0, 1, 42, 42, 181, 0, 7, 42, 178, 0, 13, 181, 0, 17, 42, 178, 0, 20, 181, 0, 24, 42]
abbrev dktJ3_init_0 : List UInt8 := dkwJ3_init_0 ++ dktJ3_init_1
theorem dksJ3_init_0 : cJ3_init.data.toList.drop 0 = dktJ3_init_0 := by decide +kernel
theorem dksJ3_init_1 : cJ3_init.data.toList.drop 24 = dktJ3_init_1 := dk_seg dksJ3_init_0 24 rfl rfl
theorem dJ3_init_0 : decode cJ3_init 0 = .ok (.aload_n 0, 1) := dk_42 (dk_at dksJ3_init_0 0 rfl rfl)
theorem dJ3_init_1 : decode cJ3_init 1 = .ok (.invokespecial 1, 3) := dk_183 0 1 (dk_at dksJ3_init_0 1 rfl rfl)
theorem dJ3_init_4 : decode cJ3_init 4 = .ok (.aload_n 0, 1) := dk_42 (dk_at dksJ3_init_0 4 rfl rfl)
theorem dJ3_init_5 : decode cJ3_init 5 = .ok (.aload_n 0, 1) := dk_42 (dk_at dksJ3_init_0 5 rfl rfl)
theorem dJ3_init_6 : decode cJ3_init 6 = .ok (.putfield 7, 3) := dk_181 0 7 (dk_at dksJ3_init_0 6 rfl rfl)
theorem dJ3_init_9 : decode cJ3_init 9 = .ok (.aload_n 0, 1) := dk_42 (dk_at dksJ3_init_0 9 rfl rfl)
theorem dJ3_init_10 : decode cJ3_init 10 = .ok (.getstatic 13, 3) := dk_178 0 13 (dk_at dksJ3_init_0 10 rfl rfl)
theorem dJ3_init_13 : decode cJ3_init 13 = .ok (.putfield 17, 3) := dk_181 0 17 (dk_at dksJ3_init_0 13 rfl rfl)
theorem dJ3_init_16 : decode cJ3_init 16 = .ok (.aload_n 0, 1) := dk_42 (dk_at dksJ3_init_0 16 rfl rfl)
theorem dJ3_init_17 : decode cJ3_init 17 = .ok (.getstatic 20, 3) := dk_178 0 20 (dk_at dksJ3_init_0 17 rfl rfl)
theorem dJ3_init_20 : decode cJ3_init 20 = .ok (.putfield 24, 3) := dk_181 0 24 (dk_at dksJ3_init_0 20 rfl rfl)
theorem dJ3_init_23 : decode cJ3_init 23 = .ok (.aload_n 0, 1) := dk_42 (dk_at dksJ3_init_0 23 rfl rfl)
theorem dJ3_init_24 : decode cJ3_init 24 = .ok (.invokevirtual 27, 3) := dk_182 0 27 (dk_at dksJ3_init_1 0 rfl rfl)
theorem dJ3_init_27 : decode cJ3_init 27 = .ok (.pop, 1) := dk_87 (dk_at dksJ3_init_1 3 rfl rfl)
theorem dJ3_init_28 : decode cJ3_init 28 = .ok (.return_, 1) := dk_177 (dk_at dksJ3_init_1 4 rfl rfl)
def dkwJ3_init_2_2 : List UInt8 := [44, 181, 0, 7, 29, 154, 0, 8, 42, 1, 181, 0, 24, 177]
abbrev dktJ3_init_2_2 : List UInt8 := dkwJ3_init_2_2 ++ []
def dkwJ3_init_2_1 : List UInt8 := [21, 4, 153, 0, 11, 42, 182, 0, 27, 87, 167, 0, 8, 42, 1, 181, 0, 17, 42, 43, 181, 0, 31, 42]
abbrev dktJ3_init_2_1 : List UInt8 := dkwJ3_init_2_1 ++ dktJ3_init_2_2
def dkwJ3_init_2_0 : List UInt8 := [42, 183, 0, 1, 42, 42, 181, 0, 7, 42, 178, 0, 13, 181, 0, 17, 42, 178, 0, 20, 181, 0, 24]
abbrev dktJ3_init_2_0 : List UInt8 := dkwJ3_init_2_0 ++ dktJ3_init_2_1
theorem dksJ3_init_2_0 : cJ3_init_2.data.toList.drop 0 = dktJ3_init_2_0 := by decide +kernel
theorem dksJ3_init_2_1 : cJ3_init_2.data.toList.drop 23 = dktJ3_init_2_1 := dk_seg dksJ3_init_2_0 23 rfl rfl
theorem dksJ3_init_2_2 : cJ3_init_2.data.toList.drop 47 = dktJ3_init_2_2 := dk_seg dksJ3_init_2_1 24 rfl rfl
theorem dJ3_init_2_0 : decode cJ3_init_2 0 = .ok (.aload_n 0, 1) := dk_42 (dk_at dksJ3_init_2_0 0 rfl rfl)
theorem dJ3_init_2_1 : decode cJ3_init_2 1 = .ok (.invokespecial 1, 3) := dk_183 0 1 (dk_at dksJ3_init_2_0 1 rfl rfl)
theorem dJ3_init_2_4 : decode cJ3_init_2 4 = .ok (.aload_n 0, 1) := dk_42 (dk_at dksJ3_init_2_0 4 rfl rfl)
theorem dJ3_init_2_5 : decode cJ3_init_2 5 = .ok (.aload_n 0, 1) := dk_42 (dk_at dksJ3_init_2_0 5 rfl rfl)
theorem dJ3_init_2_6 : decode cJ3_init_2 6 = .ok (.putfield 7, 3) := dk_181 0 7 (dk_at dksJ3_init_2_0 6 rfl rfl)
theorem dJ3_init_2_9 : decode cJ3_init_2 9 = .ok (.aload_n 0, 1) := dk_42 (dk_at dksJ3_init_2_0 9 rfl rfl)
theorem dJ3_init_2_10 : decode cJ3_init_2 10 = .ok (.getstatic 13, 3) := dk_178 0 13 (dk_at dksJ3_init_2_0 10 rfl rfl)
theorem dJ3_init_2_13 : decode cJ3_init_2 13 = .ok (.putfield 17, 3) := dk_181 0 17 (dk_at dksJ3_init_2_0 13 rfl rfl)
theorem dJ3_init_2_16 : decode cJ3_init_2 16 = .ok (.aload_n 0, 1) := dk_42 (dk_at dksJ3_init_2_0 16 rfl rfl)
theorem dJ3_init_2_17 : decode cJ3_init_2 17 = .ok (.getstatic 20, 3) := dk_178 0 20 (dk_at dksJ3_init_2_0 17 rfl rfl)
theorem dJ3_init_2_20 : decode cJ3_init_2 20 = .ok (.putfield 24, 3) := dk_181 0 24 (dk_at dksJ3_init_2_0 20 rfl rfl)
theorem dJ3_init_2_23 : decode cJ3_init_2 23 = .ok (.iload 4, 2) := dk_21 4 (dk_at dksJ3_init_2_1 0 rfl rfl)
theorem dJ3_init_2_25 : decode cJ3_init_2 25 = .ok (.ifCond .eq 11, 3) := dk_153 0 11 (dk_at dksJ3_init_2_1 2 rfl rfl)
theorem dJ3_init_2_28 : decode cJ3_init_2 28 = .ok (.aload_n 0, 1) := dk_42 (dk_at dksJ3_init_2_1 5 rfl rfl)
theorem dJ3_init_2_29 : decode cJ3_init_2 29 = .ok (.invokevirtual 27, 3) := dk_182 0 27 (dk_at dksJ3_init_2_1 6 rfl rfl)
theorem dJ3_init_2_32 : decode cJ3_init_2 32 = .ok (.pop, 1) := dk_87 (dk_at dksJ3_init_2_1 9 rfl rfl)
theorem dJ3_init_2_33 : decode cJ3_init_2 33 = .ok (.goto 8, 3) := dk_167 0 8 (dk_at dksJ3_init_2_1 10 rfl rfl)
theorem dJ3_init_2_36 : decode cJ3_init_2 36 = .ok (.aload_n 0, 1) := dk_42 (dk_at dksJ3_init_2_1 13 rfl rfl)
theorem dJ3_init_2_37 : decode cJ3_init_2 37 = .ok (.aconst_null, 1) := dk_1 (dk_at dksJ3_init_2_1 14 rfl rfl)
theorem dJ3_init_2_38 : decode cJ3_init_2 38 = .ok (.putfield 17, 3) := dk_181 0 17 (dk_at dksJ3_init_2_1 15 rfl rfl)
theorem dJ3_init_2_41 : decode cJ3_init_2 41 = .ok (.aload_n 0, 1) := dk_42 (dk_at dksJ3_init_2_1 18 rfl rfl)
theorem dJ3_init_2_42 : decode cJ3_init_2 42 = .ok (.aload_n 1, 1) := dk_43 (dk_at dksJ3_init_2_1 19 rfl rfl)
theorem dJ3_init_2_43 : decode cJ3_init_2 43 = .ok (.putfield 31, 3) := dk_181 0 31 (dk_at dksJ3_init_2_1 20 rfl rfl)
theorem dJ3_init_2_46 : decode cJ3_init_2 46 = .ok (.aload_n 0, 1) := dk_42 (dk_at dksJ3_init_2_1 23 rfl rfl)
theorem dJ3_init_2_47 : decode cJ3_init_2 47 = .ok (.aload_n 2, 1) := dk_44 (dk_at dksJ3_init_2_2 0 rfl rfl)
theorem dJ3_init_2_48 : decode cJ3_init_2 48 = .ok (.putfield 7, 3) := dk_181 0 7 (dk_at dksJ3_init_2_2 1 rfl rfl)
theorem dJ3_init_2_51 : decode cJ3_init_2 51 = .ok (.iload_n 3, 1) := dk_29 (dk_at dksJ3_init_2_2 4 rfl rfl)
theorem dJ3_init_2_52 : decode cJ3_init_2 52 = .ok (.ifCond .ne 8, 3) := dk_154 0 8 (dk_at dksJ3_init_2_2 5 rfl rfl)
theorem dJ3_init_2_55 : decode cJ3_init_2 55 = .ok (.aload_n 0, 1) := dk_42 (dk_at dksJ3_init_2_2 8 rfl rfl)
theorem dJ3_init_2_56 : decode cJ3_init_2 56 = .ok (.aconst_null, 1) := dk_1 (dk_at dksJ3_init_2_2 9 rfl rfl)
theorem dJ3_init_2_57 : decode cJ3_init_2 57 = .ok (.putfield 24, 3) := dk_181 0 24 (dk_at dksJ3_init_2_2 10 rfl rfl)
theorem dJ3_init_2_60 : decode cJ3_init_2 60 = .ok (.return_, 1) := dk_177 (dk_at dksJ3_init_2_2 13 rfl rfl)
def dkwJ3_init_3_1 : List UInt8 := [182, 0, 27, 87, 42, 43, 181, 0, 31, 177]
abbrev dktJ3_init_3_1 : List UInt8 := dkwJ3_init_3_1 ++ []
def dkwJ3_init_3_0 : List UInt8 := [42, 183, 0, 1, 42, 42, 181, 0, 7, 42, 178, 0, 13, 181, 0, 17, 42, 178, 0, 20, 181, 0, 24, 42]
abbrev dktJ3_init_3_0 : List UInt8 := dkwJ3_init_3_0 ++ dktJ3_init_3_1
theorem dksJ3_init_3_0 : cJ3_init_3.data.toList.drop 0 = dktJ3_init_3_0 := by decide +kernel
theorem dksJ3_init_3_1 : cJ3_init_3.data.toList.drop 24 = dktJ3_init_3_1 := dk_seg dksJ3_init_3_0 24 rfl rfl
theorem dJ3_init_3_0 : decode cJ3_init_3 0 = .ok (.aload_n 0, 1) := dk_42 (dk_at dksJ3_init_3_0 0 rfl rfl)
theorem dJ3_init_3_1 : decode cJ3_init_3 1 = .ok (.invokespecial 1, 3) := dk_183 0 1 (dk_at dksJ3_init_3_0 1 rfl rfl)
theorem dJ3_init_3_4 : decode cJ3_init_3 4 = .ok (.aload_n 0, 1) := dk_42 (dk_at dksJ3_init_3_0 4 rfl rfl)
theorem dJ3_init_3_5 : decode cJ3_init_3 5 = .ok (.aload_n 0, 1) := dk_42 (dk_at dksJ3_init_3_0 5 rfl rfl)
theorem dJ3_init_3_6 : decode cJ3_init_3 6 = .ok (.putfield 7, 3) := dk_181 0 7 (dk_at dksJ3_init_3_0 6 rfl rfl)
theorem dJ3_init_3_9 : decode cJ3_init_3 9 = .ok (.aload_n 0, 1) := dk_42 (dk_at dksJ3_init_3_0 9 rfl rfl)
theorem dJ3_init_3_10 : decode cJ3_init_3 10 = .ok (.getstatic 13, 3) := dk_178 0 13 (dk_at dksJ3_init_3_0 10 rfl rfl)
theorem dJ3_init_3_13 : decode cJ3_init_3 13 = .ok (.putfield 17, 3) := dk_181 0 17 (dk_at dksJ3_init_3_0 13 rfl rfl)
theorem dJ3_init_3_16 : decode cJ3_init_3 16 = .ok (.aload_n 0, 1) := dk_42 (dk_at dksJ3_init_3_0 16 rfl rfl)
theorem dJ3_init_3_17 : decode cJ3_init_3 17 = .ok (.getstatic 20, 3) := dk_178 0 20 (dk_at dksJ3_init_3_0 17 rfl rfl)
theorem dJ3_init_3_20 : decode cJ3_init_3 20 = .ok (.putfield 24, 3) := dk_181 0 24 (dk_at dksJ3_init_3_0 20 rfl rfl)
theorem dJ3_init_3_23 : decode cJ3_init_3 23 = .ok (.aload_n 0, 1) := dk_42 (dk_at dksJ3_init_3_0 23 rfl rfl)
theorem dJ3_init_3_24 : decode cJ3_init_3 24 = .ok (.invokevirtual 27, 3) := dk_182 0 27 (dk_at dksJ3_init_3_1 0 rfl rfl)
theorem dJ3_init_3_27 : decode cJ3_init_3 27 = .ok (.pop, 1) := dk_87 (dk_at dksJ3_init_3_1 3 rfl rfl)
theorem dJ3_init_3_28 : decode cJ3_init_3 28 = .ok (.aload_n 0, 1) := dk_42 (dk_at dksJ3_init_3_1 4 rfl rfl)
theorem dJ3_init_3_29 : decode cJ3_init_3 29 = .ok (.aload_n 1, 1) := dk_43 (dk_at dksJ3_init_3_1 5 rfl rfl)
theorem dJ3_init_3_30 : decode cJ3_init_3 30 = .ok (.putfield 31, 3) := dk_181 0 31 (dk_at dksJ3_init_3_1 6 rfl rfl)
theorem dJ3_init_3_33 : decode cJ3_init_3 33 = .ok (.return_, 1) := dk_177 (dk_at dksJ3_init_3_1 9 rfl rfl)
def dkwJ4_init_0 : List UInt8 := [42, 43, 44, 29, 21, 4, 183, 0, 16, 177]
abbrev dktJ4_init_0 : List UInt8 := dkwJ4_init_0 ++ []
theorem dksJ4_init_0 : cJ4_init.data.toList.drop 0 = dktJ4_init_0 := by decide +kernel
theorem dJ4_init_0 : decode cJ4_init 0 = .ok (.aload_n 0, 1) := dk_42 (dk_at dksJ4_init_0 0 rfl rfl)
theorem dJ4_init_1 : decode cJ4_init 1 = .ok (.aload_n 1, 1) := dk_43 (dk_at dksJ4_init_0 1 rfl rfl)
theorem dJ4_init_2 : decode cJ4_init 2 = .ok (.aload_n 2, 1) := dk_44 (dk_at dksJ4_init_0 2 rfl rfl)
theorem dJ4_init_3 : decode cJ4_init 3 = .ok (.iload_n 3, 1) := dk_29 (dk_at dksJ4_init_0 3 rfl rfl)
theorem dJ4_init_4 : decode cJ4_init 4 = .ok (.iload 4, 2) := dk_21 4 (dk_at dksJ4_init_0 4 rfl rfl)
theorem dJ4_init_6 : decode cJ4_init 6 = .ok (.invokespecial 16, 3) := dk_183 0 16 (dk_at dksJ4_init_0 6 rfl rfl)
theorem dJ4_init_9 : decode cJ4_init 9 = .ok (.return_, 1) := dk_177 (dk_at dksJ4_init_0 9 rfl rfl)
def dkwJ4_init_2_0 : List UInt8 := [42, 43, 183, 0, 7, 177]
abbrev dktJ4_init_2_0 : List UInt8 := dkwJ4_init_2_0 ++ []
theorem dksJ4_init_2_0 : cJ4_init_2.data.toList.drop 0 = dktJ4_init_2_0 := by decide +kernel
theorem dJ4_init_2_0 : decode cJ4_init_2 0 = .ok (.aload_n 0, 1) := dk_42 (dk_at dksJ4_init_2_0 0 rfl rfl)
theorem dJ4_init_2_1 : decode cJ4_init_2 1 = .ok (.aload_n 1, 1) := dk_43 (dk_at dksJ4_init_2_0 1 rfl rfl)
theorem dJ4_init_2_2 : decode cJ4_init_2 2 = .ok (.invokespecial 7, 3) := dk_183 0 7 (dk_at dksJ4_init_2_0 2 rfl rfl)
theorem dJ4_init_2_5 : decode cJ4_init_2 5 = .ok (.return_, 1) := dk_177 (dk_at dksJ4_init_2_0 5 rfl rfl)
def dkwX4_init_0 : List UInt8 := [42, 1, 1, 3, 3, 183, 0, 1, 177]
abbrev dktX4_init_0 : List UInt8 := dkwX4_init_0 ++ []
theorem dksX4_init_0 : cX4_init.data.toList.drop 0 = dktX4_init_0 := by decide +kernel
theorem dX4_init_0 : decode cX4_init 0 = .ok (.aload_n 0, 1) := dk_42 (dk_at dksX4_init_0 0 rfl rfl)
theorem dX4_init_1 : decode cX4_init 1 = .ok (.aconst_null, 1) := dk_1 (dk_at dksX4_init_0 1 rfl rfl)
theorem dX4_init_2 : decode cX4_init 2 = .ok (.aconst_null, 1) := dk_1 (dk_at dksX4_init_0 2 rfl rfl)
theorem dX4_init_3 : decode cX4_init 3 = .ok (.iconst 0, 1) := dk_3 (dk_at dksX4_init_0 3 rfl rfl)
theorem dX4_init_4 : decode cX4_init 4 = .ok (.iconst 0, 1) := dk_3 (dk_at dksX4_init_0 4 rfl rfl)
theorem dX4_init_5 : decode cX4_init 5 = .ok (.invokespecial 1, 3) := dk_183 0 1 (dk_at dksX4_init_0 5 rfl rfl)
theorem dX4_init_8 : decode cX4_init 8 = .ok (.return_, 1) := dk_177 (dk_at dksX4_init_0 8 rfl rfl)
def dkwX5_init_2 : List UInt8 := [181, 0, 33, 177]
abbrev dktX5_init_2 : List UInt8 := dkwX5_init_2 ++ []
def dkwX5_init_1 : List UInt8 := [181, 0, 19, 42, 16, 16, 188, 10, 181, 0, 23, 42, 2, 181, 0, 26, 42, 2, 181, 0, 30, 42, 2]
abbrev dktX5_init_1 : List UInt8 := dkwX5_init_1 ++ dktX5_init_2
def dkwX5_init_0 : List UInt8 := [42, 43, 181, 0, 3, 42, 183, 0, 9, 42, 17, 0, 200, 188, 4, 181, 0, 15, 42, 17, 0, 200, 188, 10]
abbrev dktX5_init_0 : List UInt8 := dkwX5_init_0 ++ dktX5_init_1
theorem dksX5_init_0 : cX5_init.data.toList.drop 0 = dktX5_init_0 := by decide +kernel
theorem dksX5_init_1 : cX5_init.data.toList.drop 24 = dktX5_init_1 := dk_seg dksX5_init_0 24 rfl rfl
theorem dksX5_init_2 : cX5_init.data.toList.drop 47 = dktX5_init_2 := dk_seg dksX5_init_1 23 rfl rfl
theorem dX5_init_0 : decode cX5_init 0 = .ok (.aload_n 0, 1) := dk_42 (dk_at dksX5_init_0 0 rfl rfl)
theorem dX5_init_1 : decode cX5_init 1 = .ok (.aload_n 1, 1) := dk_43 (dk_at dksX5_init_0 1 rfl rfl)
theorem dX5_init_2 : decode cX5_init 2 = .ok (.putfield 3, 3) := dk_181 0 3 (dk_at dksX5_init_0 2 rfl rfl)
theorem dX5_init_5 : decode cX5_init 5 = .ok (.aload_n 0, 1) := dk_42 (dk_at dksX5_init_0 5 rfl rfl)
theorem dX5_init_6 : decode cX5_init 6 = .ok (.invokespecial 9, 3) := dk_183 0 9 (dk_at dksX5_init_0 6 rfl rfl)
theorem dX5_init_9 : decode cX5_init 9 = .ok (.aload_n 0, 1) := dk_42 (dk_at dksX5_init_0 9 rfl rfl)
theorem dX5_init_10 : decode cX5_init 10 = .ok (.sipush 200, 3) := dk_17 0 200 (dk_at dksX5_init_0 10 rfl rfl)
theorem dX5_init_13 : decode cX5_init 13 = .ok (.newarray .boolean, 2) := dk_188_4 (dk_at dksX5_init_0 13 rfl rfl)
theorem dX5_init_15 : decode cX5_init 15 = .ok (.putfield 15, 3) := dk_181 0 15 (dk_at dksX5_init_0 15 rfl rfl)
theorem dX5_init_18 : decode cX5_init 18 = .ok (.aload_n 0, 1) := dk_42 (dk_at dksX5_init_0 18 rfl rfl)
theorem dX5_init_19 : decode cX5_init 19 = .ok (.sipush 200, 3) := dk_17 0 200 (dk_at dksX5_init_0 19 rfl rfl)
theorem dX5_init_22 : decode cX5_init 22 = .ok (.newarray .int, 2) := dk_188_10 (dk_at dksX5_init_0 22 rfl rfl)
theorem dX5_init_24 : decode cX5_init 24 = .ok (.putfield 19, 3) := dk_181 0 19 (dk_at dksX5_init_1 0 rfl rfl)
theorem dX5_init_27 : decode cX5_init 27 = .ok (.aload_n 0, 1) := dk_42 (dk_at dksX5_init_1 3 rfl rfl)
theorem dX5_init_28 : decode cX5_init 28 = .ok (.bipush 16, 2) := dk_16 16 (dk_at dksX5_init_1 4 rfl rfl)
theorem dX5_init_30 : decode cX5_init 30 = .ok (.newarray .int, 2) := dk_188_10 (dk_at dksX5_init_1 6 rfl rfl)
theorem dX5_init_32 : decode cX5_init 32 = .ok (.putfield 23, 3) := dk_181 0 23 (dk_at dksX5_init_1 8 rfl rfl)
theorem dX5_init_35 : decode cX5_init 35 = .ok (.aload_n 0, 1) := dk_42 (dk_at dksX5_init_1 11 rfl rfl)
theorem dX5_init_36 : decode cX5_init 36 = .ok (.iconst (-1), 1) := dk_2 (dk_at dksX5_init_1 12 rfl rfl)
theorem dX5_init_37 : decode cX5_init 37 = .ok (.putfield 26, 3) := dk_181 0 26 (dk_at dksX5_init_1 13 rfl rfl)
theorem dX5_init_40 : decode cX5_init 40 = .ok (.aload_n 0, 1) := dk_42 (dk_at dksX5_init_1 16 rfl rfl)
theorem dX5_init_41 : decode cX5_init 41 = .ok (.iconst (-1), 1) := dk_2 (dk_at dksX5_init_1 17 rfl rfl)
theorem dX5_init_42 : decode cX5_init 42 = .ok (.putfield 30, 3) := dk_181 0 30 (dk_at dksX5_init_1 18 rfl rfl)
theorem dX5_init_45 : decode cX5_init 45 = .ok (.aload_n 0, 1) := dk_42 (dk_at dksX5_init_1 21 rfl rfl)
theorem dX5_init_46 : decode cX5_init 46 = .ok (.iconst (-1), 1) := dk_2 (dk_at dksX5_init_1 22 rfl rfl)
theorem dX5_init_47 : decode cX5_init 47 = .ok (.putfield 33, 3) := dk_181 0 33 (dk_at dksX5_init_2 0 rfl rfl)
theorem dX5_init_50 : decode cX5_init 50 = .ok (.return_, 1) := dk_177 (dk_at dksX5_init_2 3 rfl rfl)
def dkwX5_looks_6 : List UInt8 := [46, 4, 96, 79, 132, 3, 1, 167, 255, 183, 177]
abbrev dktX5_looks_6 : List UInt8 := dkwX5_looks_6 ++ []
def dkwX5_looks_5 : List UInt8 := [182, 0, 57, 84, 42, 180, 0, 15, 29, 51, 153, 0, 18, 42, 180, 0, 23, 42, 180, 0, 19, 29, 46, 92]
abbrev dktX5_looks_5 : List UInt8 := dkwX5_looks_5 ++ dktX5_looks_6
def dkwX5_looks_4 : List UInt8 := [180, 0, 19, 29, 42, 180, 0, 3, 29, 27, 28, 182, 0, 53, 79, 42, 180, 0, 15, 29, 42, 29, 27, 28]
abbrev dktX5_looks_4 : List UInt8 := dkwX5_looks_4 ++ dktX5_looks_5
def dkwX5_looks_3 : List UInt8 := [167, 255, 240, 3, 62, 29, 42, 180, 0, 3, 180, 0, 37, 180, 0, 41, 182, 0, 47, 162, 0, 62, 42]
abbrev dktX5_looks_3 : List UInt8 := dkwX5_looks_3 ++ dktX5_looks_4
def dkwX5_looks_2 : List UInt8 := [180, 0, 36, 181, 0, 33, 3, 62, 29, 16, 16, 162, 0, 16, 42, 180, 0, 23, 29, 3, 79, 132, 3, 1]
abbrev dktX5_looks_2 : List UInt8 := dkwX5_looks_2 ++ dktX5_looks_3
def dkwX5_looks_1 : List UInt8 := [180, 0, 36, 160, 0, 4, 177, 42, 27, 181, 0, 26, 42, 28, 181, 0, 30, 42, 42, 180, 0, 3]
abbrev dktX5_looks_1 : List UInt8 := dkwX5_looks_1 ++ dktX5_looks_2
def dkwX5_looks_0 : List UInt8 := [42, 180, 0, 26, 27, 160, 0, 26, 42, 180, 0, 30, 28, 160, 0, 18, 42, 180, 0, 33, 42, 180, 0, 3]
abbrev dktX5_looks_0 : List UInt8 := dkwX5_looks_0 ++ dktX5_looks_1
theorem dksX5_looks_0 : cX5_looks.data.toList.drop 0 = dktX5_looks_0 := by decide +kernel
theorem dksX5_looks_1 : cX5_looks.data.toList.drop 24 = dktX5_looks_1 := dk_seg dksX5_looks_0 24 rfl rfl
theorem dksX5_looks_2 : cX5_looks.data.toList.drop 46 = dktX5_looks_2 := dk_seg dksX5_looks_1 22 rfl rfl
theorem dksX5_looks_3 : cX5_looks.data.toList.drop 70 = dktX5_looks_3 := dk_seg dksX5_looks_2 24 rfl rfl
theorem dksX5_looks_4 : cX5_looks.data.toList.drop 93 = dktX5_looks_4 := dk_seg dksX5_looks_3 23 rfl rfl
theorem dksX5_looks_5 : cX5_looks.data.toList.drop 117 = dktX5_looks_5 := dk_seg dksX5_looks_4 24 rfl rfl
theorem dksX5_looks_6 : cX5_looks.data.toList.drop 141 = dktX5_looks_6 := dk_seg dksX5_looks_5 24 rfl rfl
theorem dX5_looks_0 : decode cX5_looks 0 = .ok (.aload_n 0, 1) := dk_42 (dk_at dksX5_looks_0 0 rfl rfl)
theorem dX5_looks_1 : decode cX5_looks 1 = .ok (.getfield 26, 3) := dk_180 0 26 (dk_at dksX5_looks_0 1 rfl rfl)
theorem dX5_looks_4 : decode cX5_looks 4 = .ok (.iload_n 1, 1) := dk_27 (dk_at dksX5_looks_0 4 rfl rfl)
theorem dX5_looks_5 : decode cX5_looks 5 = .ok (.if_icmp .ne 26, 3) := dk_160 0 26 (dk_at dksX5_looks_0 5 rfl rfl)
theorem dX5_looks_8 : decode cX5_looks 8 = .ok (.aload_n 0, 1) := dk_42 (dk_at dksX5_looks_0 8 rfl rfl)
theorem dX5_looks_9 : decode cX5_looks 9 = .ok (.getfield 30, 3) := dk_180 0 30 (dk_at dksX5_looks_0 9 rfl rfl)
theorem dX5_looks_12 : decode cX5_looks 12 = .ok (.iload_n 2, 1) := dk_28 (dk_at dksX5_looks_0 12 rfl rfl)
theorem dX5_looks_13 : decode cX5_looks 13 = .ok (.if_icmp .ne 18, 3) := dk_160 0 18 (dk_at dksX5_looks_0 13 rfl rfl)
theorem dX5_looks_16 : decode cX5_looks 16 = .ok (.aload_n 0, 1) := dk_42 (dk_at dksX5_looks_0 16 rfl rfl)
theorem dX5_looks_17 : decode cX5_looks 17 = .ok (.getfield 33, 3) := dk_180 0 33 (dk_at dksX5_looks_0 17 rfl rfl)
theorem dX5_looks_20 : decode cX5_looks 20 = .ok (.aload_n 0, 1) := dk_42 (dk_at dksX5_looks_0 20 rfl rfl)
theorem dX5_looks_21 : decode cX5_looks 21 = .ok (.getfield 3, 3) := dk_180 0 3 (dk_at dksX5_looks_0 21 rfl rfl)
theorem dX5_looks_24 : decode cX5_looks 24 = .ok (.getfield 36, 3) := dk_180 0 36 (dk_at dksX5_looks_1 0 rfl rfl)
theorem dX5_looks_27 : decode cX5_looks 27 = .ok (.if_icmp .ne 4, 3) := dk_160 0 4 (dk_at dksX5_looks_1 3 rfl rfl)
theorem dX5_looks_30 : decode cX5_looks 30 = .ok (.return_, 1) := dk_177 (dk_at dksX5_looks_1 6 rfl rfl)
theorem dX5_looks_31 : decode cX5_looks 31 = .ok (.aload_n 0, 1) := dk_42 (dk_at dksX5_looks_1 7 rfl rfl)
theorem dX5_looks_32 : decode cX5_looks 32 = .ok (.iload_n 1, 1) := dk_27 (dk_at dksX5_looks_1 8 rfl rfl)
theorem dX5_looks_33 : decode cX5_looks 33 = .ok (.putfield 26, 3) := dk_181 0 26 (dk_at dksX5_looks_1 9 rfl rfl)
theorem dX5_looks_36 : decode cX5_looks 36 = .ok (.aload_n 0, 1) := dk_42 (dk_at dksX5_looks_1 12 rfl rfl)
theorem dX5_looks_37 : decode cX5_looks 37 = .ok (.iload_n 2, 1) := dk_28 (dk_at dksX5_looks_1 13 rfl rfl)
theorem dX5_looks_38 : decode cX5_looks 38 = .ok (.putfield 30, 3) := dk_181 0 30 (dk_at dksX5_looks_1 14 rfl rfl)
theorem dX5_looks_41 : decode cX5_looks 41 = .ok (.aload_n 0, 1) := dk_42 (dk_at dksX5_looks_1 17 rfl rfl)
theorem dX5_looks_42 : decode cX5_looks 42 = .ok (.aload_n 0, 1) := dk_42 (dk_at dksX5_looks_1 18 rfl rfl)
theorem dX5_looks_43 : decode cX5_looks 43 = .ok (.getfield 3, 3) := dk_180 0 3 (dk_at dksX5_looks_1 19 rfl rfl)
theorem dX5_looks_46 : decode cX5_looks 46 = .ok (.getfield 36, 3) := dk_180 0 36 (dk_at dksX5_looks_2 0 rfl rfl)
theorem dX5_looks_49 : decode cX5_looks 49 = .ok (.putfield 33, 3) := dk_181 0 33 (dk_at dksX5_looks_2 3 rfl rfl)
theorem dX5_looks_52 : decode cX5_looks 52 = .ok (.iconst 0, 1) := dk_3 (dk_at dksX5_looks_2 6 rfl rfl)
theorem dX5_looks_53 : decode cX5_looks 53 = .ok (.istore_n 3, 1) := dk_62 (dk_at dksX5_looks_2 7 rfl rfl)
theorem dX5_looks_54 : decode cX5_looks 54 = .ok (.iload_n 3, 1) := dk_29 (dk_at dksX5_looks_2 8 rfl rfl)
theorem dX5_looks_55 : decode cX5_looks 55 = .ok (.bipush 16, 2) := dk_16 16 (dk_at dksX5_looks_2 9 rfl rfl)
theorem dX5_looks_57 : decode cX5_looks 57 = .ok (.if_icmp .ge 16, 3) := dk_162 0 16 (dk_at dksX5_looks_2 11 rfl rfl)
theorem dX5_looks_60 : decode cX5_looks 60 = .ok (.aload_n 0, 1) := dk_42 (dk_at dksX5_looks_2 14 rfl rfl)
theorem dX5_looks_61 : decode cX5_looks 61 = .ok (.getfield 23, 3) := dk_180 0 23 (dk_at dksX5_looks_2 15 rfl rfl)
theorem dX5_looks_64 : decode cX5_looks 64 = .ok (.iload_n 3, 1) := dk_29 (dk_at dksX5_looks_2 18 rfl rfl)
theorem dX5_looks_65 : decode cX5_looks 65 = .ok (.iconst 0, 1) := dk_3 (dk_at dksX5_looks_2 19 rfl rfl)
theorem dX5_looks_66 : decode cX5_looks 66 = .ok (.iastore, 1) := dk_79 (dk_at dksX5_looks_2 20 rfl rfl)
theorem dX5_looks_67 : decode cX5_looks 67 = .ok (.iinc 3 1, 3) := dk_132 3 1 (dk_at dksX5_looks_2 21 rfl rfl)
theorem dX5_looks_70 : decode cX5_looks 70 = .ok (.goto (-16), 3) := dk_167 255 240 (dk_at dksX5_looks_3 0 rfl rfl)
theorem dX5_looks_73 : decode cX5_looks 73 = .ok (.iconst 0, 1) := dk_3 (dk_at dksX5_looks_3 3 rfl rfl)
theorem dX5_looks_74 : decode cX5_looks 74 = .ok (.istore_n 3, 1) := dk_62 (dk_at dksX5_looks_3 4 rfl rfl)
theorem dX5_looks_75 : decode cX5_looks 75 = .ok (.iload_n 3, 1) := dk_29 (dk_at dksX5_looks_3 5 rfl rfl)
theorem dX5_looks_76 : decode cX5_looks 76 = .ok (.aload_n 0, 1) := dk_42 (dk_at dksX5_looks_3 6 rfl rfl)
theorem dX5_looks_77 : decode cX5_looks 77 = .ok (.getfield 3, 3) := dk_180 0 3 (dk_at dksX5_looks_3 7 rfl rfl)
theorem dX5_looks_80 : decode cX5_looks 80 = .ok (.getfield 37, 3) := dk_180 0 37 (dk_at dksX5_looks_3 10 rfl rfl)
theorem dX5_looks_83 : decode cX5_looks 83 = .ok (.getfield 41, 3) := dk_180 0 41 (dk_at dksX5_looks_3 13 rfl rfl)
theorem dX5_looks_86 : decode cX5_looks 86 = .ok (.invokevirtual 47, 3) := dk_182 0 47 (dk_at dksX5_looks_3 16 rfl rfl)
theorem dX5_looks_89 : decode cX5_looks 89 = .ok (.if_icmp .ge 62, 3) := dk_162 0 62 (dk_at dksX5_looks_3 19 rfl rfl)
theorem dX5_looks_92 : decode cX5_looks 92 = .ok (.aload_n 0, 1) := dk_42 (dk_at dksX5_looks_3 22 rfl rfl)
theorem dX5_looks_93 : decode cX5_looks 93 = .ok (.getfield 19, 3) := dk_180 0 19 (dk_at dksX5_looks_4 0 rfl rfl)
theorem dX5_looks_96 : decode cX5_looks 96 = .ok (.iload_n 3, 1) := dk_29 (dk_at dksX5_looks_4 3 rfl rfl)
theorem dX5_looks_97 : decode cX5_looks 97 = .ok (.aload_n 0, 1) := dk_42 (dk_at dksX5_looks_4 4 rfl rfl)
theorem dX5_looks_98 : decode cX5_looks 98 = .ok (.getfield 3, 3) := dk_180 0 3 (dk_at dksX5_looks_4 5 rfl rfl)
theorem dX5_looks_101 : decode cX5_looks 101 = .ok (.iload_n 3, 1) := dk_29 (dk_at dksX5_looks_4 8 rfl rfl)
theorem dX5_looks_102 : decode cX5_looks 102 = .ok (.iload_n 1, 1) := dk_27 (dk_at dksX5_looks_4 9 rfl rfl)
theorem dX5_looks_103 : decode cX5_looks 103 = .ok (.iload_n 2, 1) := dk_28 (dk_at dksX5_looks_4 10 rfl rfl)
theorem dX5_looks_104 : decode cX5_looks 104 = .ok (.invokevirtual 53, 3) := dk_182 0 53 (dk_at dksX5_looks_4 11 rfl rfl)
theorem dX5_looks_107 : decode cX5_looks 107 = .ok (.iastore, 1) := dk_79 (dk_at dksX5_looks_4 14 rfl rfl)
theorem dX5_looks_108 : decode cX5_looks 108 = .ok (.aload_n 0, 1) := dk_42 (dk_at dksX5_looks_4 15 rfl rfl)
theorem dX5_looks_109 : decode cX5_looks 109 = .ok (.getfield 15, 3) := dk_180 0 15 (dk_at dksX5_looks_4 16 rfl rfl)
theorem dX5_looks_112 : decode cX5_looks 112 = .ok (.iload_n 3, 1) := dk_29 (dk_at dksX5_looks_4 19 rfl rfl)
theorem dX5_looks_113 : decode cX5_looks 113 = .ok (.aload_n 0, 1) := dk_42 (dk_at dksX5_looks_4 20 rfl rfl)
theorem dX5_looks_114 : decode cX5_looks 114 = .ok (.iload_n 3, 1) := dk_29 (dk_at dksX5_looks_4 21 rfl rfl)
theorem dX5_looks_115 : decode cX5_looks 115 = .ok (.iload_n 1, 1) := dk_27 (dk_at dksX5_looks_4 22 rfl rfl)
theorem dX5_looks_116 : decode cX5_looks 116 = .ok (.iload_n 2, 1) := dk_28 (dk_at dksX5_looks_4 23 rfl rfl)
theorem dX5_looks_117 : decode cX5_looks 117 = .ok (.invokevirtual 57, 3) := dk_182 0 57 (dk_at dksX5_looks_5 0 rfl rfl)
theorem dX5_looks_120 : decode cX5_looks 120 = .ok (.bastore, 1) := dk_84 (dk_at dksX5_looks_5 3 rfl rfl)
theorem dX5_looks_121 : decode cX5_looks 121 = .ok (.aload_n 0, 1) := dk_42 (dk_at dksX5_looks_5 4 rfl rfl)
theorem dX5_looks_122 : decode cX5_looks 122 = .ok (.getfield 15, 3) := dk_180 0 15 (dk_at dksX5_looks_5 5 rfl rfl)
theorem dX5_looks_125 : decode cX5_looks 125 = .ok (.iload_n 3, 1) := dk_29 (dk_at dksX5_looks_5 8 rfl rfl)
theorem dX5_looks_126 : decode cX5_looks 126 = .ok (.baload, 1) := dk_51 (dk_at dksX5_looks_5 9 rfl rfl)
theorem dX5_looks_127 : decode cX5_looks 127 = .ok (.ifCond .eq 18, 3) := dk_153 0 18 (dk_at dksX5_looks_5 10 rfl rfl)
theorem dX5_looks_130 : decode cX5_looks 130 = .ok (.aload_n 0, 1) := dk_42 (dk_at dksX5_looks_5 13 rfl rfl)
theorem dX5_looks_131 : decode cX5_looks 131 = .ok (.getfield 23, 3) := dk_180 0 23 (dk_at dksX5_looks_5 14 rfl rfl)
theorem dX5_looks_134 : decode cX5_looks 134 = .ok (.aload_n 0, 1) := dk_42 (dk_at dksX5_looks_5 17 rfl rfl)
theorem dX5_looks_135 : decode cX5_looks 135 = .ok (.getfield 19, 3) := dk_180 0 19 (dk_at dksX5_looks_5 18 rfl rfl)
theorem dX5_looks_138 : decode cX5_looks 138 = .ok (.iload_n 3, 1) := dk_29 (dk_at dksX5_looks_5 21 rfl rfl)
theorem dX5_looks_139 : decode cX5_looks 139 = .ok (.iaload, 1) := dk_46 (dk_at dksX5_looks_5 22 rfl rfl)
theorem dX5_looks_140 : decode cX5_looks 140 = .ok (.dup2, 1) := dk_92 (dk_at dksX5_looks_5 23 rfl rfl)
theorem dX5_looks_141 : decode cX5_looks 141 = .ok (.iaload, 1) := dk_46 (dk_at dksX5_looks_6 0 rfl rfl)
theorem dX5_looks_142 : decode cX5_looks 142 = .ok (.iconst 1, 1) := dk_4 (dk_at dksX5_looks_6 1 rfl rfl)
theorem dX5_looks_143 : decode cX5_looks 143 = .ok (.iadd, 1) := dk_96 (dk_at dksX5_looks_6 2 rfl rfl)
theorem dX5_looks_144 : decode cX5_looks 144 = .ok (.iastore, 1) := dk_79 (dk_at dksX5_looks_6 3 rfl rfl)
theorem dX5_looks_145 : decode cX5_looks 145 = .ok (.iinc 3 1, 3) := dk_132 3 1 (dk_at dksX5_looks_6 4 rfl rfl)
theorem dX5_looks_148 : decode cX5_looks 148 = .ok (.goto (-73), 3) := dk_167 255 183 (dk_at dksX5_looks_6 7 rfl rfl)
theorem dX5_looks_151 : decode cX5_looks 151 = .ok (.return_, 1) := dk_177 (dk_at dksX5_looks_6 10 rfl rfl)
def dkwX5_isOn_13 : List UInt8 := [154, 0, 7, 4, 167, 0, 4, 3, 172]
abbrev dktX5_isOn_13 : List UInt8 := dkwX5_isOn_13 ++ []
def dkwX5_isOn_12 : List UInt8 := [182, 0, 106, 20, 0, 110, 148, 153, 0, 24, 42, 180, 0, 3, 5, 3, 28, 182, 0, 106, 20, 0, 110, 148]
abbrev dktX5_isOn_12 : List UInt8 := dkwX5_isOn_12 ++ dktX5_isOn_13
def dkwX5_isOn_11 : List UInt8 := [180, 0, 97, 6, 42, 180, 0, 3, 27, 28, 29, 182, 0, 103, 84, 42, 180, 0, 3, 4, 3, 28]
abbrev dktX5_isOn_11 : List UInt8 := dkwX5_isOn_11 ++ dktX5_isOn_12
def dkwX5_isOn_10 : List UInt8 := [25, 4, 182, 0, 100, 6, 160, 0, 7, 4, 167, 0, 4, 3, 84, 42, 180, 0, 3, 180, 0, 78]
abbrev dktX5_isOn_10 : List UInt8 := dkwX5_isOn_10 ++ dktX5_isOn_11
def dkwX5_isOn_9 : List UInt8 := [182, 0, 100, 5, 160, 0, 7, 4, 167, 0, 4, 3, 84, 42, 180, 0, 3, 180, 0, 78, 180, 0, 97, 5]
abbrev dktX5_isOn_9 : List UInt8 := dkwX5_isOn_9 ++ dktX5_isOn_10
def dkwX5_isOn_8 : List UInt8 := [160, 0, 7, 4, 167, 0, 4, 3, 84, 42, 180, 0, 3, 180, 0, 78, 180, 0, 97, 4, 25, 4]
abbrev dktX5_isOn_8 : List UInt8 := dkwX5_isOn_8 ++ dktX5_isOn_9
def dkwX5_isOn_7 : List UInt8 := [27, 46, 46, 133, 80, 42, 180, 0, 3, 180, 0, 78, 180, 0, 97, 3, 25, 4, 182, 0, 100, 4]
abbrev dktX5_isOn_7 : List UInt8 := dkwX5_isOn_7 ++ dktX5_isOn_8
def dkwX5_isOn_6 : List UInt8 := [180, 0, 3, 180, 0, 78, 180, 0, 82, 6, 42, 180, 0, 3, 180, 0, 37, 180, 0, 94, 42, 180, 0, 19]
abbrev dktX5_isOn_6 : List UInt8 := dkwX5_isOn_6 ++ dktX5_isOn_7
def dkwX5_isOn_5 : List UInt8 := [133, 80, 42, 180, 0, 3, 180, 0, 78, 180, 0, 82, 5, 42, 180, 0, 19, 27, 46, 133, 80, 42]
abbrev dktX5_isOn_5 : List UInt8 := dkwX5_isOn_5 ++ dktX5_isOn_6
def dkwX5_isOn_4 : List UInt8 := [3, 25, 4, 180, 0, 88, 133, 80, 42, 180, 0, 3, 180, 0, 78, 180, 0, 82, 4, 25, 4, 180, 0, 91]
abbrev dktX5_isOn_4 : List UInt8 := dkwX5_isOn_4 ++ dktX5_isOn_5
def dkwX5_isOn_3 : List UInt8 := [29, 163, 0, 5, 3, 172, 42, 180, 0, 3, 28, 182, 0, 74, 42, 180, 0, 3, 180, 0, 78, 180, 0, 82]
abbrev dktX5_isOn_3 : List UInt8 := dkwX5_isOn_3 ++ dktX5_isOn_4
def dkwX5_isOn_2 : List UInt8 := [180, 0, 37, 180, 0, 68, 27, 46, 28, 163, 0, 21, 42, 180, 0, 3, 180, 0, 37, 180, 0, 71, 27, 46]
abbrev dktX5_isOn_2 : List UInt8 := dkwX5_isOn_2 ++ dktX5_isOn_3
def dkwX5_isOn_1 : List UInt8 := [29, 163, 0, 51, 42, 180, 0, 3, 180, 0, 37, 180, 0, 68, 27, 46, 2, 159, 0, 37, 42, 180, 0, 3]
abbrev dktX5_isOn_1 : List UInt8 := dkwX5_isOn_1 ++ dktX5_isOn_2
def dkwX5_isOn_0 : List UInt8 := [42, 180, 0, 3, 180, 0, 37, 180, 0, 41, 27, 182, 0, 61, 192, 0, 65, 58, 4, 25, 4, 180, 0, 67]
abbrev dktX5_isOn_0 : List UInt8 := dkwX5_isOn_0 ++ dktX5_isOn_1
theorem dksX5_isOn_0 : cX5_isOn.data.toList.drop 0 = dktX5_isOn_0 := by decide +kernel
theorem dksX5_isOn_1 : cX5_isOn.data.toList.drop 24 = dktX5_isOn_1 := dk_seg dksX5_isOn_0 24 rfl rfl
theorem dksX5_isOn_2 : cX5_isOn.data.toList.drop 48 = dktX5_isOn_2 := dk_seg dksX5_isOn_1 24 rfl rfl
theorem dksX5_isOn_3 : cX5_isOn.data.toList.drop 72 = dktX5_isOn_3 := dk_seg dksX5_isOn_2 24 rfl rfl
theorem dksX5_isOn_4 : cX5_isOn.data.toList.drop 96 = dktX5_isOn_4 := dk_seg dksX5_isOn_3 24 rfl rfl
theorem dksX5_isOn_5 : cX5_isOn.data.toList.drop 120 = dktX5_isOn_5 := dk_seg dksX5_isOn_4 24 rfl rfl
theorem dksX5_isOn_6 : cX5_isOn.data.toList.drop 142 = dktX5_isOn_6 := dk_seg dksX5_isOn_5 22 rfl rfl
theorem dksX5_isOn_7 : cX5_isOn.data.toList.drop 166 = dktX5_isOn_7 := dk_seg dksX5_isOn_6 24 rfl rfl
theorem dksX5_isOn_8 : cX5_isOn.data.toList.drop 188 = dktX5_isOn_8 := dk_seg dksX5_isOn_7 22 rfl rfl
theorem dksX5_isOn_9 : cX5_isOn.data.toList.drop 210 = dktX5_isOn_9 := dk_seg dksX5_isOn_8 22 rfl rfl
theorem dksX5_isOn_10 : cX5_isOn.data.toList.drop 234 = dktX5_isOn_10 := dk_seg dksX5_isOn_9 24 rfl rfl
theorem dksX5_isOn_11 : cX5_isOn.data.toList.drop 256 = dktX5_isOn_11 := dk_seg dksX5_isOn_10 22 rfl rfl
theorem dksX5_isOn_12 : cX5_isOn.data.toList.drop 278 = dktX5_isOn_12 := dk_seg dksX5_isOn_11 22 rfl rfl
theorem dksX5_isOn_13 : cX5_isOn.data.toList.drop 302 = dktX5_isOn_13 := dk_seg dksX5_isOn_12 24 rfl rfl
theorem dX5_isOn_0 : decode cX5_isOn 0 = .ok (.aload_n 0, 1) := dk_42 (dk_at dksX5_isOn_0 0 rfl rfl)
theorem dX5_isOn_1 : decode cX5_isOn 1 = .ok (.getfield 3, 3) := dk_180 0 3 (dk_at dksX5_isOn_0 1 rfl rfl)
theorem dX5_isOn_4 : decode cX5_isOn 4 = .ok (.getfield 37, 3) := dk_180 0 37 (dk_at dksX5_isOn_0 4 rfl rfl)
theorem dX5_isOn_7 : decode cX5_isOn 7 = .ok (.getfield 41, 3) := dk_180 0 41 (dk_at dksX5_isOn_0 7 rfl rfl)
theorem dX5_isOn_10 : decode cX5_isOn 10 = .ok (.iload_n 1, 1) := dk_27 (dk_at dksX5_isOn_0 10 rfl rfl)
theorem dX5_isOn_11 : decode cX5_isOn 11 = .ok (.invokevirtual 61, 3) := dk_182 0 61 (dk_at dksX5_isOn_0 11 rfl rfl)
theorem dX5_isOn_14 : decode cX5_isOn 14 = .ok (.checkcast 65, 3) := dk_192 0 65 (dk_at dksX5_isOn_0 14 rfl rfl)
theorem dX5_isOn_17 : decode cX5_isOn 17 = .ok (.astore 4, 2) := dk_58 4 (dk_at dksX5_isOn_0 17 rfl rfl)
theorem dX5_isOn_19 : decode cX5_isOn 19 = .ok (.aload 4, 2) := dk_25 4 (dk_at dksX5_isOn_0 19 rfl rfl)
theorem dX5_isOn_21 : decode cX5_isOn 21 = .ok (.getfield 67, 3) := dk_180 0 67 (dk_at dksX5_isOn_0 21 rfl rfl)
theorem dX5_isOn_24 : decode cX5_isOn 24 = .ok (.iload_n 3, 1) := dk_29 (dk_at dksX5_isOn_1 0 rfl rfl)
theorem dX5_isOn_25 : decode cX5_isOn 25 = .ok (.if_icmp .gt 51, 3) := dk_163 0 51 (dk_at dksX5_isOn_1 1 rfl rfl)
theorem dX5_isOn_28 : decode cX5_isOn 28 = .ok (.aload_n 0, 1) := dk_42 (dk_at dksX5_isOn_1 4 rfl rfl)
theorem dX5_isOn_29 : decode cX5_isOn 29 = .ok (.getfield 3, 3) := dk_180 0 3 (dk_at dksX5_isOn_1 5 rfl rfl)
theorem dX5_isOn_32 : decode cX5_isOn 32 = .ok (.getfield 37, 3) := dk_180 0 37 (dk_at dksX5_isOn_1 8 rfl rfl)
theorem dX5_isOn_35 : decode cX5_isOn 35 = .ok (.getfield 68, 3) := dk_180 0 68 (dk_at dksX5_isOn_1 11 rfl rfl)
theorem dX5_isOn_38 : decode cX5_isOn 38 = .ok (.iload_n 1, 1) := dk_27 (dk_at dksX5_isOn_1 14 rfl rfl)
theorem dX5_isOn_39 : decode cX5_isOn 39 = .ok (.iaload, 1) := dk_46 (dk_at dksX5_isOn_1 15 rfl rfl)
theorem dX5_isOn_40 : decode cX5_isOn 40 = .ok (.iconst (-1), 1) := dk_2 (dk_at dksX5_isOn_1 16 rfl rfl)
theorem dX5_isOn_41 : decode cX5_isOn 41 = .ok (.if_icmp .eq 37, 3) := dk_159 0 37 (dk_at dksX5_isOn_1 17 rfl rfl)
theorem dX5_isOn_44 : decode cX5_isOn 44 = .ok (.aload_n 0, 1) := dk_42 (dk_at dksX5_isOn_1 20 rfl rfl)
theorem dX5_isOn_45 : decode cX5_isOn 45 = .ok (.getfield 3, 3) := dk_180 0 3 (dk_at dksX5_isOn_1 21 rfl rfl)
theorem dX5_isOn_48 : decode cX5_isOn 48 = .ok (.getfield 37, 3) := dk_180 0 37 (dk_at dksX5_isOn_2 0 rfl rfl)
theorem dX5_isOn_51 : decode cX5_isOn 51 = .ok (.getfield 68, 3) := dk_180 0 68 (dk_at dksX5_isOn_2 3 rfl rfl)
theorem dX5_isOn_54 : decode cX5_isOn 54 = .ok (.iload_n 1, 1) := dk_27 (dk_at dksX5_isOn_2 6 rfl rfl)
theorem dX5_isOn_55 : decode cX5_isOn 55 = .ok (.iaload, 1) := dk_46 (dk_at dksX5_isOn_2 7 rfl rfl)
theorem dX5_isOn_56 : decode cX5_isOn 56 = .ok (.iload_n 2, 1) := dk_28 (dk_at dksX5_isOn_2 8 rfl rfl)
theorem dX5_isOn_57 : decode cX5_isOn 57 = .ok (.if_icmp .gt 21, 3) := dk_163 0 21 (dk_at dksX5_isOn_2 9 rfl rfl)
theorem dX5_isOn_60 : decode cX5_isOn 60 = .ok (.aload_n 0, 1) := dk_42 (dk_at dksX5_isOn_2 12 rfl rfl)
theorem dX5_isOn_61 : decode cX5_isOn 61 = .ok (.getfield 3, 3) := dk_180 0 3 (dk_at dksX5_isOn_2 13 rfl rfl)
theorem dX5_isOn_64 : decode cX5_isOn 64 = .ok (.getfield 37, 3) := dk_180 0 37 (dk_at dksX5_isOn_2 16 rfl rfl)
theorem dX5_isOn_67 : decode cX5_isOn 67 = .ok (.getfield 71, 3) := dk_180 0 71 (dk_at dksX5_isOn_2 19 rfl rfl)
theorem dX5_isOn_70 : decode cX5_isOn 70 = .ok (.iload_n 1, 1) := dk_27 (dk_at dksX5_isOn_2 22 rfl rfl)
theorem dX5_isOn_71 : decode cX5_isOn 71 = .ok (.iaload, 1) := dk_46 (dk_at dksX5_isOn_2 23 rfl rfl)
theorem dX5_isOn_72 : decode cX5_isOn 72 = .ok (.iload_n 3, 1) := dk_29 (dk_at dksX5_isOn_3 0 rfl rfl)
theorem dX5_isOn_73 : decode cX5_isOn 73 = .ok (.if_icmp .gt 5, 3) := dk_163 0 5 (dk_at dksX5_isOn_3 1 rfl rfl)
theorem dX5_isOn_76 : decode cX5_isOn 76 = .ok (.iconst 0, 1) := dk_3 (dk_at dksX5_isOn_3 4 rfl rfl)
theorem dX5_isOn_77 : decode cX5_isOn 77 = .ok (.ireturn, 1) := dk_172 (dk_at dksX5_isOn_3 5 rfl rfl)
theorem dX5_isOn_78 : decode cX5_isOn 78 = .ok (.aload_n 0, 1) := dk_42 (dk_at dksX5_isOn_3 6 rfl rfl)
theorem dX5_isOn_79 : decode cX5_isOn 79 = .ok (.getfield 3, 3) := dk_180 0 3 (dk_at dksX5_isOn_3 7 rfl rfl)
theorem dX5_isOn_82 : decode cX5_isOn 82 = .ok (.iload_n 2, 1) := dk_28 (dk_at dksX5_isOn_3 10 rfl rfl)
theorem dX5_isOn_83 : decode cX5_isOn 83 = .ok (.invokevirtual 74, 3) := dk_182 0 74 (dk_at dksX5_isOn_3 11 rfl rfl)
theorem dX5_isOn_86 : decode cX5_isOn 86 = .ok (.aload_n 0, 1) := dk_42 (dk_at dksX5_isOn_3 14 rfl rfl)
theorem dX5_isOn_87 : decode cX5_isOn 87 = .ok (.getfield 3, 3) := dk_180 0 3 (dk_at dksX5_isOn_3 15 rfl rfl)
theorem dX5_isOn_90 : decode cX5_isOn 90 = .ok (.getfield 78, 3) := dk_180 0 78 (dk_at dksX5_isOn_3 18 rfl rfl)
theorem dX5_isOn_93 : decode cX5_isOn 93 = .ok (.getfield 82, 3) := dk_180 0 82 (dk_at dksX5_isOn_3 21 rfl rfl)
theorem dX5_isOn_96 : decode cX5_isOn 96 = .ok (.iconst 0, 1) := dk_3 (dk_at dksX5_isOn_4 0 rfl rfl)
theorem dX5_isOn_97 : decode cX5_isOn 97 = .ok (.aload 4, 2) := dk_25 4 (dk_at dksX5_isOn_4 1 rfl rfl)
theorem dX5_isOn_99 : decode cX5_isOn 99 = .ok (.getfield 88, 3) := dk_180 0 88 (dk_at dksX5_isOn_4 3 rfl rfl)
theorem dX5_isOn_102 : decode cX5_isOn 102 = .ok (.i2l, 1) := dk_133 (dk_at dksX5_isOn_4 6 rfl rfl)
theorem dX5_isOn_103 : decode cX5_isOn 103 = .ok (.lastore, 1) := dk_80 (dk_at dksX5_isOn_4 7 rfl rfl)
theorem dX5_isOn_104 : decode cX5_isOn 104 = .ok (.aload_n 0, 1) := dk_42 (dk_at dksX5_isOn_4 8 rfl rfl)
theorem dX5_isOn_105 : decode cX5_isOn 105 = .ok (.getfield 3, 3) := dk_180 0 3 (dk_at dksX5_isOn_4 9 rfl rfl)
theorem dX5_isOn_108 : decode cX5_isOn 108 = .ok (.getfield 78, 3) := dk_180 0 78 (dk_at dksX5_isOn_4 12 rfl rfl)
theorem dX5_isOn_111 : decode cX5_isOn 111 = .ok (.getfield 82, 3) := dk_180 0 82 (dk_at dksX5_isOn_4 15 rfl rfl)
theorem dX5_isOn_114 : decode cX5_isOn 114 = .ok (.iconst 1, 1) := dk_4 (dk_at dksX5_isOn_4 18 rfl rfl)
theorem dX5_isOn_115 : decode cX5_isOn 115 = .ok (.aload 4, 2) := dk_25 4 (dk_at dksX5_isOn_4 19 rfl rfl)
theorem dX5_isOn_117 : decode cX5_isOn 117 = .ok (.getfield 91, 3) := dk_180 0 91 (dk_at dksX5_isOn_4 21 rfl rfl)
theorem dX5_isOn_120 : decode cX5_isOn 120 = .ok (.i2l, 1) := dk_133 (dk_at dksX5_isOn_5 0 rfl rfl)
theorem dX5_isOn_121 : decode cX5_isOn 121 = .ok (.lastore, 1) := dk_80 (dk_at dksX5_isOn_5 1 rfl rfl)
theorem dX5_isOn_122 : decode cX5_isOn 122 = .ok (.aload_n 0, 1) := dk_42 (dk_at dksX5_isOn_5 2 rfl rfl)
theorem dX5_isOn_123 : decode cX5_isOn 123 = .ok (.getfield 3, 3) := dk_180 0 3 (dk_at dksX5_isOn_5 3 rfl rfl)
theorem dX5_isOn_126 : decode cX5_isOn 126 = .ok (.getfield 78, 3) := dk_180 0 78 (dk_at dksX5_isOn_5 6 rfl rfl)
theorem dX5_isOn_129 : decode cX5_isOn 129 = .ok (.getfield 82, 3) := dk_180 0 82 (dk_at dksX5_isOn_5 9 rfl rfl)
theorem dX5_isOn_132 : decode cX5_isOn 132 = .ok (.iconst 2, 1) := dk_5 (dk_at dksX5_isOn_5 12 rfl rfl)
theorem dX5_isOn_133 : decode cX5_isOn 133 = .ok (.aload_n 0, 1) := dk_42 (dk_at dksX5_isOn_5 13 rfl rfl)
theorem dX5_isOn_134 : decode cX5_isOn 134 = .ok (.getfield 19, 3) := dk_180 0 19 (dk_at dksX5_isOn_5 14 rfl rfl)
theorem dX5_isOn_137 : decode cX5_isOn 137 = .ok (.iload_n 1, 1) := dk_27 (dk_at dksX5_isOn_5 17 rfl rfl)
theorem dX5_isOn_138 : decode cX5_isOn 138 = .ok (.iaload, 1) := dk_46 (dk_at dksX5_isOn_5 18 rfl rfl)
theorem dX5_isOn_139 : decode cX5_isOn 139 = .ok (.i2l, 1) := dk_133 (dk_at dksX5_isOn_5 19 rfl rfl)
theorem dX5_isOn_140 : decode cX5_isOn 140 = .ok (.lastore, 1) := dk_80 (dk_at dksX5_isOn_5 20 rfl rfl)
theorem dX5_isOn_141 : decode cX5_isOn 141 = .ok (.aload_n 0, 1) := dk_42 (dk_at dksX5_isOn_5 21 rfl rfl)
theorem dX5_isOn_142 : decode cX5_isOn 142 = .ok (.getfield 3, 3) := dk_180 0 3 (dk_at dksX5_isOn_6 0 rfl rfl)
theorem dX5_isOn_145 : decode cX5_isOn 145 = .ok (.getfield 78, 3) := dk_180 0 78 (dk_at dksX5_isOn_6 3 rfl rfl)
theorem dX5_isOn_148 : decode cX5_isOn 148 = .ok (.getfield 82, 3) := dk_180 0 82 (dk_at dksX5_isOn_6 6 rfl rfl)
theorem dX5_isOn_151 : decode cX5_isOn 151 = .ok (.iconst 3, 1) := dk_6 (dk_at dksX5_isOn_6 9 rfl rfl)
theorem dX5_isOn_152 : decode cX5_isOn 152 = .ok (.aload_n 0, 1) := dk_42 (dk_at dksX5_isOn_6 10 rfl rfl)
theorem dX5_isOn_153 : decode cX5_isOn 153 = .ok (.getfield 3, 3) := dk_180 0 3 (dk_at dksX5_isOn_6 11 rfl rfl)
theorem dX5_isOn_156 : decode cX5_isOn 156 = .ok (.getfield 37, 3) := dk_180 0 37 (dk_at dksX5_isOn_6 14 rfl rfl)
theorem dX5_isOn_159 : decode cX5_isOn 159 = .ok (.getfield 94, 3) := dk_180 0 94 (dk_at dksX5_isOn_6 17 rfl rfl)
theorem dX5_isOn_162 : decode cX5_isOn 162 = .ok (.aload_n 0, 1) := dk_42 (dk_at dksX5_isOn_6 20 rfl rfl)
theorem dX5_isOn_163 : decode cX5_isOn 163 = .ok (.getfield 19, 3) := dk_180 0 19 (dk_at dksX5_isOn_6 21 rfl rfl)
theorem dX5_isOn_166 : decode cX5_isOn 166 = .ok (.iload_n 1, 1) := dk_27 (dk_at dksX5_isOn_7 0 rfl rfl)
theorem dX5_isOn_167 : decode cX5_isOn 167 = .ok (.iaload, 1) := dk_46 (dk_at dksX5_isOn_7 1 rfl rfl)
theorem dX5_isOn_168 : decode cX5_isOn 168 = .ok (.iaload, 1) := dk_46 (dk_at dksX5_isOn_7 2 rfl rfl)
theorem dX5_isOn_169 : decode cX5_isOn 169 = .ok (.i2l, 1) := dk_133 (dk_at dksX5_isOn_7 3 rfl rfl)
theorem dX5_isOn_170 : decode cX5_isOn 170 = .ok (.lastore, 1) := dk_80 (dk_at dksX5_isOn_7 4 rfl rfl)
theorem dX5_isOn_171 : decode cX5_isOn 171 = .ok (.aload_n 0, 1) := dk_42 (dk_at dksX5_isOn_7 5 rfl rfl)
theorem dX5_isOn_172 : decode cX5_isOn 172 = .ok (.getfield 3, 3) := dk_180 0 3 (dk_at dksX5_isOn_7 6 rfl rfl)
theorem dX5_isOn_175 : decode cX5_isOn 175 = .ok (.getfield 78, 3) := dk_180 0 78 (dk_at dksX5_isOn_7 9 rfl rfl)
theorem dX5_isOn_178 : decode cX5_isOn 178 = .ok (.getfield 97, 3) := dk_180 0 97 (dk_at dksX5_isOn_7 12 rfl rfl)
theorem dX5_isOn_181 : decode cX5_isOn 181 = .ok (.iconst 0, 1) := dk_3 (dk_at dksX5_isOn_7 15 rfl rfl)
theorem dX5_isOn_182 : decode cX5_isOn 182 = .ok (.aload 4, 2) := dk_25 4 (dk_at dksX5_isOn_7 16 rfl rfl)
theorem dX5_isOn_184 : decode cX5_isOn 184 = .ok (.invokevirtual 100, 3) := dk_182 0 100 (dk_at dksX5_isOn_7 18 rfl rfl)
theorem dX5_isOn_187 : decode cX5_isOn 187 = .ok (.iconst 1, 1) := dk_4 (dk_at dksX5_isOn_7 21 rfl rfl)
theorem dX5_isOn_188 : decode cX5_isOn 188 = .ok (.if_icmp .ne 7, 3) := dk_160 0 7 (dk_at dksX5_isOn_8 0 rfl rfl)
theorem dX5_isOn_191 : decode cX5_isOn 191 = .ok (.iconst 1, 1) := dk_4 (dk_at dksX5_isOn_8 3 rfl rfl)
theorem dX5_isOn_192 : decode cX5_isOn 192 = .ok (.goto 4, 3) := dk_167 0 4 (dk_at dksX5_isOn_8 4 rfl rfl)
theorem dX5_isOn_195 : decode cX5_isOn 195 = .ok (.iconst 0, 1) := dk_3 (dk_at dksX5_isOn_8 7 rfl rfl)
theorem dX5_isOn_196 : decode cX5_isOn 196 = .ok (.bastore, 1) := dk_84 (dk_at dksX5_isOn_8 8 rfl rfl)
theorem dX5_isOn_197 : decode cX5_isOn 197 = .ok (.aload_n 0, 1) := dk_42 (dk_at dksX5_isOn_8 9 rfl rfl)
theorem dX5_isOn_198 : decode cX5_isOn 198 = .ok (.getfield 3, 3) := dk_180 0 3 (dk_at dksX5_isOn_8 10 rfl rfl)
theorem dX5_isOn_201 : decode cX5_isOn 201 = .ok (.getfield 78, 3) := dk_180 0 78 (dk_at dksX5_isOn_8 13 rfl rfl)
theorem dX5_isOn_204 : decode cX5_isOn 204 = .ok (.getfield 97, 3) := dk_180 0 97 (dk_at dksX5_isOn_8 16 rfl rfl)
theorem dX5_isOn_207 : decode cX5_isOn 207 = .ok (.iconst 1, 1) := dk_4 (dk_at dksX5_isOn_8 19 rfl rfl)
theorem dX5_isOn_208 : decode cX5_isOn 208 = .ok (.aload 4, 2) := dk_25 4 (dk_at dksX5_isOn_8 20 rfl rfl)
theorem dX5_isOn_210 : decode cX5_isOn 210 = .ok (.invokevirtual 100, 3) := dk_182 0 100 (dk_at dksX5_isOn_9 0 rfl rfl)
theorem dX5_isOn_213 : decode cX5_isOn 213 = .ok (.iconst 2, 1) := dk_5 (dk_at dksX5_isOn_9 3 rfl rfl)
theorem dX5_isOn_214 : decode cX5_isOn 214 = .ok (.if_icmp .ne 7, 3) := dk_160 0 7 (dk_at dksX5_isOn_9 4 rfl rfl)
theorem dX5_isOn_217 : decode cX5_isOn 217 = .ok (.iconst 1, 1) := dk_4 (dk_at dksX5_isOn_9 7 rfl rfl)
theorem dX5_isOn_218 : decode cX5_isOn 218 = .ok (.goto 4, 3) := dk_167 0 4 (dk_at dksX5_isOn_9 8 rfl rfl)
theorem dX5_isOn_221 : decode cX5_isOn 221 = .ok (.iconst 0, 1) := dk_3 (dk_at dksX5_isOn_9 11 rfl rfl)
theorem dX5_isOn_222 : decode cX5_isOn 222 = .ok (.bastore, 1) := dk_84 (dk_at dksX5_isOn_9 12 rfl rfl)
theorem dX5_isOn_223 : decode cX5_isOn 223 = .ok (.aload_n 0, 1) := dk_42 (dk_at dksX5_isOn_9 13 rfl rfl)
theorem dX5_isOn_224 : decode cX5_isOn 224 = .ok (.getfield 3, 3) := dk_180 0 3 (dk_at dksX5_isOn_9 14 rfl rfl)
theorem dX5_isOn_227 : decode cX5_isOn 227 = .ok (.getfield 78, 3) := dk_180 0 78 (dk_at dksX5_isOn_9 17 rfl rfl)
theorem dX5_isOn_230 : decode cX5_isOn 230 = .ok (.getfield 97, 3) := dk_180 0 97 (dk_at dksX5_isOn_9 20 rfl rfl)
theorem dX5_isOn_233 : decode cX5_isOn 233 = .ok (.iconst 2, 1) := dk_5 (dk_at dksX5_isOn_9 23 rfl rfl)
theorem dX5_isOn_234 : decode cX5_isOn 234 = .ok (.aload 4, 2) := dk_25 4 (dk_at dksX5_isOn_10 0 rfl rfl)
theorem dX5_isOn_236 : decode cX5_isOn 236 = .ok (.invokevirtual 100, 3) := dk_182 0 100 (dk_at dksX5_isOn_10 2 rfl rfl)
theorem dX5_isOn_239 : decode cX5_isOn 239 = .ok (.iconst 3, 1) := dk_6 (dk_at dksX5_isOn_10 5 rfl rfl)
theorem dX5_isOn_240 : decode cX5_isOn 240 = .ok (.if_icmp .ne 7, 3) := dk_160 0 7 (dk_at dksX5_isOn_10 6 rfl rfl)
theorem dX5_isOn_243 : decode cX5_isOn 243 = .ok (.iconst 1, 1) := dk_4 (dk_at dksX5_isOn_10 9 rfl rfl)
theorem dX5_isOn_244 : decode cX5_isOn 244 = .ok (.goto 4, 3) := dk_167 0 4 (dk_at dksX5_isOn_10 10 rfl rfl)
theorem dX5_isOn_247 : decode cX5_isOn 247 = .ok (.iconst 0, 1) := dk_3 (dk_at dksX5_isOn_10 13 rfl rfl)
theorem dX5_isOn_248 : decode cX5_isOn 248 = .ok (.bastore, 1) := dk_84 (dk_at dksX5_isOn_10 14 rfl rfl)
theorem dX5_isOn_249 : decode cX5_isOn 249 = .ok (.aload_n 0, 1) := dk_42 (dk_at dksX5_isOn_10 15 rfl rfl)
theorem dX5_isOn_250 : decode cX5_isOn 250 = .ok (.getfield 3, 3) := dk_180 0 3 (dk_at dksX5_isOn_10 16 rfl rfl)
theorem dX5_isOn_253 : decode cX5_isOn 253 = .ok (.getfield 78, 3) := dk_180 0 78 (dk_at dksX5_isOn_10 19 rfl rfl)
theorem dX5_isOn_256 : decode cX5_isOn 256 = .ok (.getfield 97, 3) := dk_180 0 97 (dk_at dksX5_isOn_11 0 rfl rfl)
theorem dX5_isOn_259 : decode cX5_isOn 259 = .ok (.iconst 3, 1) := dk_6 (dk_at dksX5_isOn_11 3 rfl rfl)
theorem dX5_isOn_260 : decode cX5_isOn 260 = .ok (.aload_n 0, 1) := dk_42 (dk_at dksX5_isOn_11 4 rfl rfl)
theorem dX5_isOn_261 : decode cX5_isOn 261 = .ok (.getfield 3, 3) := dk_180 0 3 (dk_at dksX5_isOn_11 5 rfl rfl)
theorem dX5_isOn_264 : decode cX5_isOn 264 = .ok (.iload_n 1, 1) := dk_27 (dk_at dksX5_isOn_11 8 rfl rfl)
theorem dX5_isOn_265 : decode cX5_isOn 265 = .ok (.iload_n 2, 1) := dk_28 (dk_at dksX5_isOn_11 9 rfl rfl)
theorem dX5_isOn_266 : decode cX5_isOn 266 = .ok (.iload_n 3, 1) := dk_29 (dk_at dksX5_isOn_11 10 rfl rfl)
theorem dX5_isOn_267 : decode cX5_isOn 267 = .ok (.invokevirtual 103, 3) := dk_182 0 103 (dk_at dksX5_isOn_11 11 rfl rfl)
theorem dX5_isOn_270 : decode cX5_isOn 270 = .ok (.bastore, 1) := dk_84 (dk_at dksX5_isOn_11 14 rfl rfl)
theorem dX5_isOn_271 : decode cX5_isOn 271 = .ok (.aload_n 0, 1) := dk_42 (dk_at dksX5_isOn_11 15 rfl rfl)
theorem dX5_isOn_272 : decode cX5_isOn 272 = .ok (.getfield 3, 3) := dk_180 0 3 (dk_at dksX5_isOn_11 16 rfl rfl)
theorem dX5_isOn_275 : decode cX5_isOn 275 = .ok (.iconst 1, 1) := dk_4 (dk_at dksX5_isOn_11 19 rfl rfl)
theorem dX5_isOn_276 : decode cX5_isOn 276 = .ok (.iconst 0, 1) := dk_3 (dk_at dksX5_isOn_11 20 rfl rfl)
theorem dX5_isOn_277 : decode cX5_isOn 277 = .ok (.iload_n 2, 1) := dk_28 (dk_at dksX5_isOn_11 21 rfl rfl)
theorem dX5_isOn_278 : decode cX5_isOn 278 = .ok (.invokevirtual 106, 3) := dk_182 0 106 (dk_at dksX5_isOn_12 0 rfl rfl)
theorem dX5_isOn_281 : decode cX5_isOn 281 = .ok (.ldc2_w 110, 3) := dk_20 0 110 (dk_at dksX5_isOn_12 3 rfl rfl)
theorem dX5_isOn_284 : decode cX5_isOn 284 = .ok (.lcmp, 1) := dk_148 (dk_at dksX5_isOn_12 6 rfl rfl)
theorem dX5_isOn_285 : decode cX5_isOn 285 = .ok (.ifCond .eq 24, 3) := dk_153 0 24 (dk_at dksX5_isOn_12 7 rfl rfl)
theorem dX5_isOn_288 : decode cX5_isOn 288 = .ok (.aload_n 0, 1) := dk_42 (dk_at dksX5_isOn_12 10 rfl rfl)
theorem dX5_isOn_289 : decode cX5_isOn 289 = .ok (.getfield 3, 3) := dk_180 0 3 (dk_at dksX5_isOn_12 11 rfl rfl)
theorem dX5_isOn_292 : decode cX5_isOn 292 = .ok (.iconst 2, 1) := dk_5 (dk_at dksX5_isOn_12 14 rfl rfl)
theorem dX5_isOn_293 : decode cX5_isOn 293 = .ok (.iconst 0, 1) := dk_3 (dk_at dksX5_isOn_12 15 rfl rfl)
theorem dX5_isOn_294 : decode cX5_isOn 294 = .ok (.iload_n 2, 1) := dk_28 (dk_at dksX5_isOn_12 16 rfl rfl)
theorem dX5_isOn_295 : decode cX5_isOn 295 = .ok (.invokevirtual 106, 3) := dk_182 0 106 (dk_at dksX5_isOn_12 17 rfl rfl)
theorem dX5_isOn_298 : decode cX5_isOn 298 = .ok (.ldc2_w 110, 3) := dk_20 0 110 (dk_at dksX5_isOn_12 20 rfl rfl)
theorem dX5_isOn_301 : decode cX5_isOn 301 = .ok (.lcmp, 1) := dk_148 (dk_at dksX5_isOn_12 23 rfl rfl)
theorem dX5_isOn_302 : decode cX5_isOn 302 = .ok (.ifCond .ne 7, 3) := dk_154 0 7 (dk_at dksX5_isOn_13 0 rfl rfl)
theorem dX5_isOn_305 : decode cX5_isOn 305 = .ok (.iconst 1, 1) := dk_4 (dk_at dksX5_isOn_13 3 rfl rfl)
theorem dX5_isOn_306 : decode cX5_isOn 306 = .ok (.goto 4, 3) := dk_167 0 4 (dk_at dksX5_isOn_13 4 rfl rfl)
theorem dX5_isOn_309 : decode cX5_isOn 309 = .ok (.iconst 0, 1) := dk_3 (dk_at dksX5_isOn_13 7 rfl rfl)
theorem dX5_isOn_310 : decode cX5_isOn 310 = .ok (.ireturn, 1) := dk_172 (dk_at dksX5_isOn_13 8 rfl rfl)
def dkwX6_init_3 : List UInt8 := [42, 2, 181, 0, 42, 177]
abbrev dktX6_init_3 : List UInt8 := dkwX6_init_3 ++ []
def dkwX6_init_2 : List UInt8 := [188, 4, 181, 0, 29, 42, 17, 0, 200, 188, 4, 181, 0, 32, 42, 2, 181, 0, 35, 42, 2, 181, 0, 39]
abbrev dktX6_init_2 : List UInt8 := dkwX6_init_2 ++ dktX6_init_3
def dkwX6_init_1 : List UInt8 := [181, 0, 19, 42, 17, 0, 160, 188, 10, 181, 0, 22, 42, 16, 20, 188, 4, 181, 0, 25, 42, 16, 20]
abbrev dktX6_init_1 : List UInt8 := dkwX6_init_1 ++ dktX6_init_2
def dkwX6_init_0 : List UInt8 := [42, 43, 181, 0, 3, 42, 183, 0, 9, 42, 16, 80, 188, 10, 181, 0, 15, 42, 16, 20, 188, 10]
abbrev dktX6_init_0 : List UInt8 := dkwX6_init_0 ++ dktX6_init_1
theorem dksX6_init_0 : cX6_init.data.toList.drop 0 = dktX6_init_0 := by decide +kernel
theorem dksX6_init_1 : cX6_init.data.toList.drop 22 = dktX6_init_1 := dk_seg dksX6_init_0 22 rfl rfl
theorem dksX6_init_2 : cX6_init.data.toList.drop 45 = dktX6_init_2 := dk_seg dksX6_init_1 23 rfl rfl
theorem dksX6_init_3 : cX6_init.data.toList.drop 69 = dktX6_init_3 := dk_seg dksX6_init_2 24 rfl rfl
theorem dX6_init_0 : decode cX6_init 0 = .ok (.aload_n 0, 1) := dk_42 (dk_at dksX6_init_0 0 rfl rfl)
theorem dX6_init_1 : decode cX6_init 1 = .ok (.aload_n 1, 1) := dk_43 (dk_at dksX6_init_0 1 rfl rfl)
theorem dX6_init_2 : decode cX6_init 2 = .ok (.putfield 3, 3) := dk_181 0 3 (dk_at dksX6_init_0 2 rfl rfl)
theorem dX6_init_5 : decode cX6_init 5 = .ok (.aload_n 0, 1) := dk_42 (dk_at dksX6_init_0 5 rfl rfl)
theorem dX6_init_6 : decode cX6_init 6 = .ok (.invokespecial 9, 3) := dk_183 0 9 (dk_at dksX6_init_0 6 rfl rfl)
theorem dX6_init_9 : decode cX6_init 9 = .ok (.aload_n 0, 1) := dk_42 (dk_at dksX6_init_0 9 rfl rfl)
theorem dX6_init_10 : decode cX6_init 10 = .ok (.bipush 80, 2) := dk_16 80 (dk_at dksX6_init_0 10 rfl rfl)
theorem dX6_init_12 : decode cX6_init 12 = .ok (.newarray .int, 2) := dk_188_10 (dk_at dksX6_init_0 12 rfl rfl)
theorem dX6_init_14 : decode cX6_init 14 = .ok (.putfield 15, 3) := dk_181 0 15 (dk_at dksX6_init_0 14 rfl rfl)
theorem dX6_init_17 : decode cX6_init 17 = .ok (.aload_n 0, 1) := dk_42 (dk_at dksX6_init_0 17 rfl rfl)
theorem dX6_init_18 : decode cX6_init 18 = .ok (.bipush 20, 2) := dk_16 20 (dk_at dksX6_init_0 18 rfl rfl)
theorem dX6_init_20 : decode cX6_init 20 = .ok (.newarray .int, 2) := dk_188_10 (dk_at dksX6_init_0 20 rfl rfl)
theorem dX6_init_22 : decode cX6_init 22 = .ok (.putfield 19, 3) := dk_181 0 19 (dk_at dksX6_init_1 0 rfl rfl)
theorem dX6_init_25 : decode cX6_init 25 = .ok (.aload_n 0, 1) := dk_42 (dk_at dksX6_init_1 3 rfl rfl)
theorem dX6_init_26 : decode cX6_init 26 = .ok (.sipush 160, 3) := dk_17 0 160 (dk_at dksX6_init_1 4 rfl rfl)
theorem dX6_init_29 : decode cX6_init 29 = .ok (.newarray .int, 2) := dk_188_10 (dk_at dksX6_init_1 7 rfl rfl)
theorem dX6_init_31 : decode cX6_init 31 = .ok (.putfield 22, 3) := dk_181 0 22 (dk_at dksX6_init_1 9 rfl rfl)
theorem dX6_init_34 : decode cX6_init 34 = .ok (.aload_n 0, 1) := dk_42 (dk_at dksX6_init_1 12 rfl rfl)
theorem dX6_init_35 : decode cX6_init 35 = .ok (.bipush 20, 2) := dk_16 20 (dk_at dksX6_init_1 13 rfl rfl)
theorem dX6_init_37 : decode cX6_init 37 = .ok (.newarray .boolean, 2) := dk_188_4 (dk_at dksX6_init_1 15 rfl rfl)
theorem dX6_init_39 : decode cX6_init 39 = .ok (.putfield 25, 3) := dk_181 0 25 (dk_at dksX6_init_1 17 rfl rfl)
theorem dX6_init_42 : decode cX6_init 42 = .ok (.aload_n 0, 1) := dk_42 (dk_at dksX6_init_1 20 rfl rfl)
theorem dX6_init_43 : decode cX6_init 43 = .ok (.bipush 20, 2) := dk_16 20 (dk_at dksX6_init_1 21 rfl rfl)
theorem dX6_init_45 : decode cX6_init 45 = .ok (.newarray .boolean, 2) := dk_188_4 (dk_at dksX6_init_2 0 rfl rfl)
theorem dX6_init_47 : decode cX6_init 47 = .ok (.putfield 29, 3) := dk_181 0 29 (dk_at dksX6_init_2 2 rfl rfl)
theorem dX6_init_50 : decode cX6_init 50 = .ok (.aload_n 0, 1) := dk_42 (dk_at dksX6_init_2 5 rfl rfl)
theorem dX6_init_51 : decode cX6_init 51 = .ok (.sipush 200, 3) := dk_17 0 200 (dk_at dksX6_init_2 6 rfl rfl)
theorem dX6_init_54 : decode cX6_init 54 = .ok (.newarray .boolean, 2) := dk_188_4 (dk_at dksX6_init_2 9 rfl rfl)
theorem dX6_init_56 : decode cX6_init 56 = .ok (.putfield 32, 3) := dk_181 0 32 (dk_at dksX6_init_2 11 rfl rfl)
theorem dX6_init_59 : decode cX6_init 59 = .ok (.aload_n 0, 1) := dk_42 (dk_at dksX6_init_2 14 rfl rfl)
theorem dX6_init_60 : decode cX6_init 60 = .ok (.iconst (-1), 1) := dk_2 (dk_at dksX6_init_2 15 rfl rfl)
theorem dX6_init_61 : decode cX6_init 61 = .ok (.putfield 35, 3) := dk_181 0 35 (dk_at dksX6_init_2 16 rfl rfl)
theorem dX6_init_64 : decode cX6_init 64 = .ok (.aload_n 0, 1) := dk_42 (dk_at dksX6_init_2 19 rfl rfl)
theorem dX6_init_65 : decode cX6_init 65 = .ok (.iconst (-1), 1) := dk_2 (dk_at dksX6_init_2 20 rfl rfl)
theorem dX6_init_66 : decode cX6_init 66 = .ok (.putfield 39, 3) := dk_181 0 39 (dk_at dksX6_init_2 21 rfl rfl)
theorem dX6_init_69 : decode cX6_init 69 = .ok (.aload_n 0, 1) := dk_42 (dk_at dksX6_init_3 0 rfl rfl)
theorem dX6_init_70 : decode cX6_init 70 = .ok (.iconst (-1), 1) := dk_2 (dk_at dksX6_init_3 1 rfl rfl)
theorem dX6_init_71 : decode cX6_init 71 = .ok (.putfield 42, 3) := dk_181 0 42 (dk_at dksX6_init_3 2 rfl rfl)
theorem dX6_init_74 : decode cX6_init 74 = .ok (.return_, 1) := dk_177 (dk_at dksX6_init_3 5 rfl rfl)
def dkwX6_looks_19 : List UInt8 := [180, 0, 56, 180, 0, 113, 29, 46, 96, 79, 132, 3, 1, 167, 255, 140, 177]
abbrev dktX6_looks_19 : List UInt8 := dkwX6_looks_19 ++ []
def dkwX6_looks_18 : List UInt8 := [154, 0, 34, 42, 180, 0, 22, 16, 8, 21, 5, 104, 25, 4, 180, 0, 90, 96, 92, 46, 42, 180, 0, 3]
abbrev dktX6_looks_18 : List UInt8 := dkwX6_looks_18 ++ dktX6_looks_19
def dkwX6_looks_17 : List UInt8 := [182, 0, 109, 153, 0, 53, 42, 180, 0, 32, 16, 10, 21, 5, 104, 25, 4, 180, 0, 93, 96, 51]
abbrev dktX6_looks_17 : List UInt8 := dkwX6_looks_17 ++ dktX6_looks_18
def dkwX6_looks_16 : List UInt8 := [58, 4, 42, 180, 0, 3, 180, 0, 56, 180, 0, 103, 25, 4, 180, 0, 87, 46, 54, 5, 42, 29, 28]
abbrev dktX6_looks_16 : List UInt8 := dkwX6_looks_16 ++ dktX6_looks_17
def dkwX6_looks_15 : List UInt8 := [182, 0, 72, 162, 0, 105, 42, 180, 0, 3, 180, 0, 56, 180, 0, 106, 29, 182, 0, 78, 192, 0, 82]
abbrev dktX6_looks_15 : List UInt8 := dkwX6_looks_15 ++ dktX6_looks_16
def dkwX6_looks_14 : List UInt8 := [182, 0, 116, 132, 3, 1, 167, 255, 234, 3, 62, 29, 42, 180, 0, 3, 180, 0, 56, 180, 0, 106]
abbrev dktX6_looks_14 : List UInt8 := dkwX6_looks_14 ++ dktX6_looks_15
def dkwX6_looks_13 : List UInt8 := [132, 3, 1, 167, 255, 176, 3, 62, 29, 42, 180, 0, 3, 180, 0, 56, 180, 0, 60, 162, 0, 14, 42, 29]
abbrev dktX6_looks_13 : List UInt8 := dkwX6_looks_13 ++ dktX6_looks_14
def dkwX6_looks_12 : List UInt8 := [192, 0, 82, 180, 0, 87, 46, 92, 46, 42, 180, 0, 3, 180, 0, 56, 180, 0, 113, 29, 46, 96, 79]
abbrev dktX6_looks_12 : List UInt8 := dkwX6_looks_12 ++ dktX6_looks_13
def dkwX6_looks_11 : List UInt8 := [180, 0, 3, 180, 0, 56, 180, 0, 103, 42, 180, 0, 3, 180, 0, 56, 180, 0, 106, 29, 182, 0, 78]
abbrev dktX6_looks_11 : List UInt8 := dkwX6_looks_11 ++ dktX6_looks_12
def dkwX6_looks_10 : List UInt8 := [180, 0, 106, 182, 0, 72, 162, 0, 69, 42, 29, 28, 182, 0, 109, 153, 0, 54, 42, 180, 0, 19, 42]
abbrev dktX6_looks_10 : List UInt8 := dkwX6_looks_10 ++ dktX6_looks_11
def dkwX6_looks_9 : List UInt8 := [180, 0, 103, 29, 46, 4, 84, 132, 3, 1, 167, 255, 208, 3, 62, 29, 42, 180, 0, 3, 180, 0, 56]
abbrev dktX6_looks_9 : List UInt8 := dkwX6_looks_9 ++ dktX6_looks_10
def dkwX6_looks_8 : List UInt8 := [180, 0, 3, 29, 28, 182, 0, 99, 2, 159, 0, 21, 42, 180, 0, 29, 42, 180, 0, 3, 180, 0, 56]
abbrev dktX6_looks_8 : List UInt8 := dkwX6_looks_8 ++ dktX6_looks_9
def dkwX6_looks_7 : List UInt8 := [132, 3, 1, 167, 255, 185, 3, 62, 29, 42, 180, 0, 3, 180, 0, 56, 180, 0, 96, 162, 0, 40, 42]
abbrev dktX6_looks_7 : List UInt8 := dkwX6_looks_7 ++ dktX6_looks_8
def dkwX6_looks_6 : List UInt8 := [180, 0, 15, 7, 25, 4, 180, 0, 87, 104, 25, 4, 180, 0, 90, 96, 25, 4, 180, 0, 93, 79]
abbrev dktX6_looks_6 : List UInt8 := dkwX6_looks_6 ++ dktX6_looks_7
def dkwX6_looks_5 : List UInt8 := [180, 0, 69, 29, 182, 0, 78, 192, 0, 82, 58, 4, 25, 4, 180, 0, 84, 28, 163, 0, 26, 42]
abbrev dktX6_looks_5 : List UInt8 := dkwX6_looks_5 ++ dktX6_looks_6
def dkwX6_looks_4 : List UInt8 := [180, 0, 3, 180, 0, 56, 180, 0, 69, 182, 0, 72, 162, 0, 60, 42, 180, 0, 3, 180, 0, 56]
abbrev dktX6_looks_4 : List UInt8 := dkwX6_looks_4 ++ dktX6_looks_5
def dkwX6_looks_3 : List UInt8 := [180, 0, 56, 180, 0, 60, 162, 0, 14, 42, 29, 182, 0, 65, 132, 3, 1, 167, 255, 234, 3, 62, 29, 42]
abbrev dktX6_looks_3 : List UInt8 := dkwX6_looks_3 ++ dktX6_looks_4
def dkwX6_looks_2 : List UInt8 := [42, 28, 181, 0, 39, 42, 42, 180, 0, 3, 180, 0, 55, 181, 0, 42, 3, 62, 29, 42, 180, 0, 3]
abbrev dktX6_looks_2 : List UInt8 := dkwX6_looks_2 ++ dktX6_looks_3
def dkwX6_looks_1 : List UInt8 := [28, 160, 0, 18, 42, 180, 0, 42, 42, 180, 0, 3, 180, 0, 55, 160, 0, 4, 177, 42, 27, 181, 0, 35]
abbrev dktX6_looks_1 : List UInt8 := dkwX6_looks_1 ++ dktX6_looks_2
def dkwX6_looks_0 : List UInt8 := [42, 180, 0, 3, 180, 0, 45, 27, 28, 182, 0, 49, 42, 180, 0, 35, 27, 160, 0, 26, 42, 180, 0, 39]
abbrev dktX6_looks_0 : List UInt8 := dkwX6_looks_0 ++ dktX6_looks_1
theorem dksX6_looks_0 : cX6_looks.data.toList.drop 0 = dktX6_looks_0 := by decide +kernel
theorem dksX6_looks_1 : cX6_looks.data.toList.drop 24 = dktX6_looks_1 := dk_seg dksX6_looks_0 24 rfl rfl
theorem dksX6_looks_2 : cX6_looks.data.toList.drop 48 = dktX6_looks_2 := dk_seg dksX6_looks_1 24 rfl rfl
theorem dksX6_looks_3 : cX6_looks.data.toList.drop 71 = dktX6_looks_3 := dk_seg dksX6_looks_2 23 rfl rfl
theorem dksX6_looks_4 : cX6_looks.data.toList.drop 95 = dktX6_looks_4 := dk_seg dksX6_looks_3 24 rfl rfl
theorem dksX6_looks_5 : cX6_looks.data.toList.drop 117 = dktX6_looks_5 := dk_seg dksX6_looks_4 22 rfl rfl
theorem dksX6_looks_6 : cX6_looks.data.toList.drop 139 = dktX6_looks_6 := dk_seg dksX6_looks_5 22 rfl rfl
theorem dksX6_looks_7 : cX6_looks.data.toList.drop 161 = dktX6_looks_7 := dk_seg dksX6_looks_6 22 rfl rfl
theorem dksX6_looks_8 : cX6_looks.data.toList.drop 184 = dktX6_looks_8 := dk_seg dksX6_looks_7 23 rfl rfl
theorem dksX6_looks_9 : cX6_looks.data.toList.drop 207 = dktX6_looks_9 := dk_seg dksX6_looks_8 23 rfl rfl
theorem dksX6_looks_10 : cX6_looks.data.toList.drop 230 = dktX6_looks_10 := dk_seg dksX6_looks_9 23 rfl rfl
theorem dksX6_looks_11 : cX6_looks.data.toList.drop 253 = dktX6_looks_11 := dk_seg dksX6_looks_10 23 rfl rfl
theorem dksX6_looks_12 : cX6_looks.data.toList.drop 276 = dktX6_looks_12 := dk_seg dksX6_looks_11 23 rfl rfl
theorem dksX6_looks_13 : cX6_looks.data.toList.drop 299 = dktX6_looks_13 := dk_seg dksX6_looks_12 23 rfl rfl
theorem dksX6_looks_14 : cX6_looks.data.toList.drop 323 = dktX6_looks_14 := dk_seg dksX6_looks_13 24 rfl rfl
theorem dksX6_looks_15 : cX6_looks.data.toList.drop 345 = dktX6_looks_15 := dk_seg dksX6_looks_14 22 rfl rfl
theorem dksX6_looks_16 : cX6_looks.data.toList.drop 368 = dktX6_looks_16 := dk_seg dksX6_looks_15 23 rfl rfl
theorem dksX6_looks_17 : cX6_looks.data.toList.drop 391 = dktX6_looks_17 := dk_seg dksX6_looks_16 23 rfl rfl
theorem dksX6_looks_18 : cX6_looks.data.toList.drop 413 = dktX6_looks_18 := dk_seg dksX6_looks_17 22 rfl rfl
theorem dksX6_looks_19 : cX6_looks.data.toList.drop 437 = dktX6_looks_19 := dk_seg dksX6_looks_18 24 rfl rfl
theorem dX6_looks_0 : decode cX6_looks 0 = .ok (.aload_n 0, 1) := dk_42 (dk_at dksX6_looks_0 0 rfl rfl)
theorem dX6_looks_1 : decode cX6_looks 1 = .ok (.getfield 3, 3) := dk_180 0 3 (dk_at dksX6_looks_0 1 rfl rfl)
theorem dX6_looks_4 : decode cX6_looks 4 = .ok (.getfield 45, 3) := dk_180 0 45 (dk_at dksX6_looks_0 4 rfl rfl)
theorem dX6_looks_7 : decode cX6_looks 7 = .ok (.iload_n 1, 1) := dk_27 (dk_at dksX6_looks_0 7 rfl rfl)
theorem dX6_looks_8 : decode cX6_looks 8 = .ok (.iload_n 2, 1) := dk_28 (dk_at dksX6_looks_0 8 rfl rfl)
theorem dX6_looks_9 : decode cX6_looks 9 = .ok (.invokevirtual 49, 3) := dk_182 0 49 (dk_at dksX6_looks_0 9 rfl rfl)
theorem dX6_looks_12 : decode cX6_looks 12 = .ok (.aload_n 0, 1) := dk_42 (dk_at dksX6_looks_0 12 rfl rfl)
theorem dX6_looks_13 : decode cX6_looks 13 = .ok (.getfield 35, 3) := dk_180 0 35 (dk_at dksX6_looks_0 13 rfl rfl)
theorem dX6_looks_16 : decode cX6_looks 16 = .ok (.iload_n 1, 1) := dk_27 (dk_at dksX6_looks_0 16 rfl rfl)
theorem dX6_looks_17 : decode cX6_looks 17 = .ok (.if_icmp .ne 26, 3) := dk_160 0 26 (dk_at dksX6_looks_0 17 rfl rfl)
theorem dX6_looks_20 : decode cX6_looks 20 = .ok (.aload_n 0, 1) := dk_42 (dk_at dksX6_looks_0 20 rfl rfl)
theorem dX6_looks_21 : decode cX6_looks 21 = .ok (.getfield 39, 3) := dk_180 0 39 (dk_at dksX6_looks_0 21 rfl rfl)
theorem dX6_looks_24 : decode cX6_looks 24 = .ok (.iload_n 2, 1) := dk_28 (dk_at dksX6_looks_1 0 rfl rfl)
theorem dX6_looks_25 : decode cX6_looks 25 = .ok (.if_icmp .ne 18, 3) := dk_160 0 18 (dk_at dksX6_looks_1 1 rfl rfl)
theorem dX6_looks_28 : decode cX6_looks 28 = .ok (.aload_n 0, 1) := dk_42 (dk_at dksX6_looks_1 4 rfl rfl)
theorem dX6_looks_29 : decode cX6_looks 29 = .ok (.getfield 42, 3) := dk_180 0 42 (dk_at dksX6_looks_1 5 rfl rfl)
theorem dX6_looks_32 : decode cX6_looks 32 = .ok (.aload_n 0, 1) := dk_42 (dk_at dksX6_looks_1 8 rfl rfl)
theorem dX6_looks_33 : decode cX6_looks 33 = .ok (.getfield 3, 3) := dk_180 0 3 (dk_at dksX6_looks_1 9 rfl rfl)
theorem dX6_looks_36 : decode cX6_looks 36 = .ok (.getfield 55, 3) := dk_180 0 55 (dk_at dksX6_looks_1 12 rfl rfl)
theorem dX6_looks_39 : decode cX6_looks 39 = .ok (.if_icmp .ne 4, 3) := dk_160 0 4 (dk_at dksX6_looks_1 15 rfl rfl)
theorem dX6_looks_42 : decode cX6_looks 42 = .ok (.return_, 1) := dk_177 (dk_at dksX6_looks_1 18 rfl rfl)
theorem dX6_looks_43 : decode cX6_looks 43 = .ok (.aload_n 0, 1) := dk_42 (dk_at dksX6_looks_1 19 rfl rfl)
theorem dX6_looks_44 : decode cX6_looks 44 = .ok (.iload_n 1, 1) := dk_27 (dk_at dksX6_looks_1 20 rfl rfl)
theorem dX6_looks_45 : decode cX6_looks 45 = .ok (.putfield 35, 3) := dk_181 0 35 (dk_at dksX6_looks_1 21 rfl rfl)
theorem dX6_looks_48 : decode cX6_looks 48 = .ok (.aload_n 0, 1) := dk_42 (dk_at dksX6_looks_2 0 rfl rfl)
theorem dX6_looks_49 : decode cX6_looks 49 = .ok (.iload_n 2, 1) := dk_28 (dk_at dksX6_looks_2 1 rfl rfl)
theorem dX6_looks_50 : decode cX6_looks 50 = .ok (.putfield 39, 3) := dk_181 0 39 (dk_at dksX6_looks_2 2 rfl rfl)
theorem dX6_looks_53 : decode cX6_looks 53 = .ok (.aload_n 0, 1) := dk_42 (dk_at dksX6_looks_2 5 rfl rfl)
theorem dX6_looks_54 : decode cX6_looks 54 = .ok (.aload_n 0, 1) := dk_42 (dk_at dksX6_looks_2 6 rfl rfl)
theorem dX6_looks_55 : decode cX6_looks 55 = .ok (.getfield 3, 3) := dk_180 0 3 (dk_at dksX6_looks_2 7 rfl rfl)
theorem dX6_looks_58 : decode cX6_looks 58 = .ok (.getfield 55, 3) := dk_180 0 55 (dk_at dksX6_looks_2 10 rfl rfl)
theorem dX6_looks_61 : decode cX6_looks 61 = .ok (.putfield 42, 3) := dk_181 0 42 (dk_at dksX6_looks_2 13 rfl rfl)
theorem dX6_looks_64 : decode cX6_looks 64 = .ok (.iconst 0, 1) := dk_3 (dk_at dksX6_looks_2 16 rfl rfl)
theorem dX6_looks_65 : decode cX6_looks 65 = .ok (.istore_n 3, 1) := dk_62 (dk_at dksX6_looks_2 17 rfl rfl)
theorem dX6_looks_66 : decode cX6_looks 66 = .ok (.iload_n 3, 1) := dk_29 (dk_at dksX6_looks_2 18 rfl rfl)
theorem dX6_looks_67 : decode cX6_looks 67 = .ok (.aload_n 0, 1) := dk_42 (dk_at dksX6_looks_2 19 rfl rfl)
theorem dX6_looks_68 : decode cX6_looks 68 = .ok (.getfield 3, 3) := dk_180 0 3 (dk_at dksX6_looks_2 20 rfl rfl)
theorem dX6_looks_71 : decode cX6_looks 71 = .ok (.getfield 56, 3) := dk_180 0 56 (dk_at dksX6_looks_3 0 rfl rfl)
theorem dX6_looks_74 : decode cX6_looks 74 = .ok (.getfield 60, 3) := dk_180 0 60 (dk_at dksX6_looks_3 3 rfl rfl)
theorem dX6_looks_77 : decode cX6_looks 77 = .ok (.if_icmp .ge 14, 3) := dk_162 0 14 (dk_at dksX6_looks_3 6 rfl rfl)
theorem dX6_looks_80 : decode cX6_looks 80 = .ok (.aload_n 0, 1) := dk_42 (dk_at dksX6_looks_3 9 rfl rfl)
theorem dX6_looks_81 : decode cX6_looks 81 = .ok (.iload_n 3, 1) := dk_29 (dk_at dksX6_looks_3 10 rfl rfl)
theorem dX6_looks_82 : decode cX6_looks 82 = .ok (.invokevirtual 65, 3) := dk_182 0 65 (dk_at dksX6_looks_3 11 rfl rfl)
theorem dX6_looks_85 : decode cX6_looks 85 = .ok (.iinc 3 1, 3) := dk_132 3 1 (dk_at dksX6_looks_3 14 rfl rfl)
theorem dX6_looks_88 : decode cX6_looks 88 = .ok (.goto (-22), 3) := dk_167 255 234 (dk_at dksX6_looks_3 17 rfl rfl)
theorem dX6_looks_91 : decode cX6_looks 91 = .ok (.iconst 0, 1) := dk_3 (dk_at dksX6_looks_3 20 rfl rfl)
theorem dX6_looks_92 : decode cX6_looks 92 = .ok (.istore_n 3, 1) := dk_62 (dk_at dksX6_looks_3 21 rfl rfl)
theorem dX6_looks_93 : decode cX6_looks 93 = .ok (.iload_n 3, 1) := dk_29 (dk_at dksX6_looks_3 22 rfl rfl)
theorem dX6_looks_94 : decode cX6_looks 94 = .ok (.aload_n 0, 1) := dk_42 (dk_at dksX6_looks_3 23 rfl rfl)
theorem dX6_looks_95 : decode cX6_looks 95 = .ok (.getfield 3, 3) := dk_180 0 3 (dk_at dksX6_looks_4 0 rfl rfl)
theorem dX6_looks_98 : decode cX6_looks 98 = .ok (.getfield 56, 3) := dk_180 0 56 (dk_at dksX6_looks_4 3 rfl rfl)
theorem dX6_looks_101 : decode cX6_looks 101 = .ok (.getfield 69, 3) := dk_180 0 69 (dk_at dksX6_looks_4 6 rfl rfl)
theorem dX6_looks_104 : decode cX6_looks 104 = .ok (.invokevirtual 72, 3) := dk_182 0 72 (dk_at dksX6_looks_4 9 rfl rfl)
theorem dX6_looks_107 : decode cX6_looks 107 = .ok (.if_icmp .ge 60, 3) := dk_162 0 60 (dk_at dksX6_looks_4 12 rfl rfl)
theorem dX6_looks_110 : decode cX6_looks 110 = .ok (.aload_n 0, 1) := dk_42 (dk_at dksX6_looks_4 15 rfl rfl)
theorem dX6_looks_111 : decode cX6_looks 111 = .ok (.getfield 3, 3) := dk_180 0 3 (dk_at dksX6_looks_4 16 rfl rfl)
theorem dX6_looks_114 : decode cX6_looks 114 = .ok (.getfield 56, 3) := dk_180 0 56 (dk_at dksX6_looks_4 19 rfl rfl)
theorem dX6_looks_117 : decode cX6_looks 117 = .ok (.getfield 69, 3) := dk_180 0 69 (dk_at dksX6_looks_5 0 rfl rfl)
theorem dX6_looks_120 : decode cX6_looks 120 = .ok (.iload_n 3, 1) := dk_29 (dk_at dksX6_looks_5 3 rfl rfl)
theorem dX6_looks_121 : decode cX6_looks 121 = .ok (.invokevirtual 78, 3) := dk_182 0 78 (dk_at dksX6_looks_5 4 rfl rfl)
theorem dX6_looks_124 : decode cX6_looks 124 = .ok (.checkcast 82, 3) := dk_192 0 82 (dk_at dksX6_looks_5 7 rfl rfl)
theorem dX6_looks_127 : decode cX6_looks 127 = .ok (.astore 4, 2) := dk_58 4 (dk_at dksX6_looks_5 10 rfl rfl)
theorem dX6_looks_129 : decode cX6_looks 129 = .ok (.aload 4, 2) := dk_25 4 (dk_at dksX6_looks_5 12 rfl rfl)
theorem dX6_looks_131 : decode cX6_looks 131 = .ok (.getfield 84, 3) := dk_180 0 84 (dk_at dksX6_looks_5 14 rfl rfl)
theorem dX6_looks_134 : decode cX6_looks 134 = .ok (.iload_n 2, 1) := dk_28 (dk_at dksX6_looks_5 17 rfl rfl)
theorem dX6_looks_135 : decode cX6_looks 135 = .ok (.if_icmp .gt 26, 3) := dk_163 0 26 (dk_at dksX6_looks_5 18 rfl rfl)
theorem dX6_looks_138 : decode cX6_looks 138 = .ok (.aload_n 0, 1) := dk_42 (dk_at dksX6_looks_5 21 rfl rfl)
theorem dX6_looks_139 : decode cX6_looks 139 = .ok (.getfield 15, 3) := dk_180 0 15 (dk_at dksX6_looks_6 0 rfl rfl)
theorem dX6_looks_142 : decode cX6_looks 142 = .ok (.iconst 4, 1) := dk_7 (dk_at dksX6_looks_6 3 rfl rfl)
theorem dX6_looks_143 : decode cX6_looks 143 = .ok (.aload 4, 2) := dk_25 4 (dk_at dksX6_looks_6 4 rfl rfl)
theorem dX6_looks_145 : decode cX6_looks 145 = .ok (.getfield 87, 3) := dk_180 0 87 (dk_at dksX6_looks_6 6 rfl rfl)
theorem dX6_looks_148 : decode cX6_looks 148 = .ok (.imul, 1) := dk_104 (dk_at dksX6_looks_6 9 rfl rfl)
theorem dX6_looks_149 : decode cX6_looks 149 = .ok (.aload 4, 2) := dk_25 4 (dk_at dksX6_looks_6 10 rfl rfl)
theorem dX6_looks_151 : decode cX6_looks 151 = .ok (.getfield 90, 3) := dk_180 0 90 (dk_at dksX6_looks_6 12 rfl rfl)
theorem dX6_looks_154 : decode cX6_looks 154 = .ok (.iadd, 1) := dk_96 (dk_at dksX6_looks_6 15 rfl rfl)
theorem dX6_looks_155 : decode cX6_looks 155 = .ok (.aload 4, 2) := dk_25 4 (dk_at dksX6_looks_6 16 rfl rfl)
theorem dX6_looks_157 : decode cX6_looks 157 = .ok (.getfield 93, 3) := dk_180 0 93 (dk_at dksX6_looks_6 18 rfl rfl)
theorem dX6_looks_160 : decode cX6_looks 160 = .ok (.iastore, 1) := dk_79 (dk_at dksX6_looks_6 21 rfl rfl)
theorem dX6_looks_161 : decode cX6_looks 161 = .ok (.iinc 3 1, 3) := dk_132 3 1 (dk_at dksX6_looks_7 0 rfl rfl)
theorem dX6_looks_164 : decode cX6_looks 164 = .ok (.goto (-71), 3) := dk_167 255 185 (dk_at dksX6_looks_7 3 rfl rfl)
theorem dX6_looks_167 : decode cX6_looks 167 = .ok (.iconst 0, 1) := dk_3 (dk_at dksX6_looks_7 6 rfl rfl)
theorem dX6_looks_168 : decode cX6_looks 168 = .ok (.istore_n 3, 1) := dk_62 (dk_at dksX6_looks_7 7 rfl rfl)
theorem dX6_looks_169 : decode cX6_looks 169 = .ok (.iload_n 3, 1) := dk_29 (dk_at dksX6_looks_7 8 rfl rfl)
theorem dX6_looks_170 : decode cX6_looks 170 = .ok (.aload_n 0, 1) := dk_42 (dk_at dksX6_looks_7 9 rfl rfl)
theorem dX6_looks_171 : decode cX6_looks 171 = .ok (.getfield 3, 3) := dk_180 0 3 (dk_at dksX6_looks_7 10 rfl rfl)
theorem dX6_looks_174 : decode cX6_looks 174 = .ok (.getfield 56, 3) := dk_180 0 56 (dk_at dksX6_looks_7 13 rfl rfl)
theorem dX6_looks_177 : decode cX6_looks 177 = .ok (.getfield 96, 3) := dk_180 0 96 (dk_at dksX6_looks_7 16 rfl rfl)
theorem dX6_looks_180 : decode cX6_looks 180 = .ok (.if_icmp .ge 40, 3) := dk_162 0 40 (dk_at dksX6_looks_7 19 rfl rfl)
theorem dX6_looks_183 : decode cX6_looks 183 = .ok (.aload_n 0, 1) := dk_42 (dk_at dksX6_looks_7 22 rfl rfl)
theorem dX6_looks_184 : decode cX6_looks 184 = .ok (.getfield 3, 3) := dk_180 0 3 (dk_at dksX6_looks_8 0 rfl rfl)
theorem dX6_looks_187 : decode cX6_looks 187 = .ok (.iload_n 3, 1) := dk_29 (dk_at dksX6_looks_8 3 rfl rfl)
theorem dX6_looks_188 : decode cX6_looks 188 = .ok (.iload_n 2, 1) := dk_28 (dk_at dksX6_looks_8 4 rfl rfl)
theorem dX6_looks_189 : decode cX6_looks 189 = .ok (.invokevirtual 99, 3) := dk_182 0 99 (dk_at dksX6_looks_8 5 rfl rfl)
theorem dX6_looks_192 : decode cX6_looks 192 = .ok (.iconst (-1), 1) := dk_2 (dk_at dksX6_looks_8 8 rfl rfl)
theorem dX6_looks_193 : decode cX6_looks 193 = .ok (.if_icmp .eq 21, 3) := dk_159 0 21 (dk_at dksX6_looks_8 9 rfl rfl)
theorem dX6_looks_196 : decode cX6_looks 196 = .ok (.aload_n 0, 1) := dk_42 (dk_at dksX6_looks_8 12 rfl rfl)
theorem dX6_looks_197 : decode cX6_looks 197 = .ok (.getfield 29, 3) := dk_180 0 29 (dk_at dksX6_looks_8 13 rfl rfl)
theorem dX6_looks_200 : decode cX6_looks 200 = .ok (.aload_n 0, 1) := dk_42 (dk_at dksX6_looks_8 16 rfl rfl)
theorem dX6_looks_201 : decode cX6_looks 201 = .ok (.getfield 3, 3) := dk_180 0 3 (dk_at dksX6_looks_8 17 rfl rfl)
theorem dX6_looks_204 : decode cX6_looks 204 = .ok (.getfield 56, 3) := dk_180 0 56 (dk_at dksX6_looks_8 20 rfl rfl)
theorem dX6_looks_207 : decode cX6_looks 207 = .ok (.getfield 103, 3) := dk_180 0 103 (dk_at dksX6_looks_9 0 rfl rfl)
theorem dX6_looks_210 : decode cX6_looks 210 = .ok (.iload_n 3, 1) := dk_29 (dk_at dksX6_looks_9 3 rfl rfl)
theorem dX6_looks_211 : decode cX6_looks 211 = .ok (.iaload, 1) := dk_46 (dk_at dksX6_looks_9 4 rfl rfl)
theorem dX6_looks_212 : decode cX6_looks 212 = .ok (.iconst 1, 1) := dk_4 (dk_at dksX6_looks_9 5 rfl rfl)
theorem dX6_looks_213 : decode cX6_looks 213 = .ok (.bastore, 1) := dk_84 (dk_at dksX6_looks_9 6 rfl rfl)
theorem dX6_looks_214 : decode cX6_looks 214 = .ok (.iinc 3 1, 3) := dk_132 3 1 (dk_at dksX6_looks_9 7 rfl rfl)
theorem dX6_looks_217 : decode cX6_looks 217 = .ok (.goto (-48), 3) := dk_167 255 208 (dk_at dksX6_looks_9 10 rfl rfl)
theorem dX6_looks_220 : decode cX6_looks 220 = .ok (.iconst 0, 1) := dk_3 (dk_at dksX6_looks_9 13 rfl rfl)
theorem dX6_looks_221 : decode cX6_looks 221 = .ok (.istore_n 3, 1) := dk_62 (dk_at dksX6_looks_9 14 rfl rfl)
theorem dX6_looks_222 : decode cX6_looks 222 = .ok (.iload_n 3, 1) := dk_29 (dk_at dksX6_looks_9 15 rfl rfl)
theorem dX6_looks_223 : decode cX6_looks 223 = .ok (.aload_n 0, 1) := dk_42 (dk_at dksX6_looks_9 16 rfl rfl)
theorem dX6_looks_224 : decode cX6_looks 224 = .ok (.getfield 3, 3) := dk_180 0 3 (dk_at dksX6_looks_9 17 rfl rfl)
theorem dX6_looks_227 : decode cX6_looks 227 = .ok (.getfield 56, 3) := dk_180 0 56 (dk_at dksX6_looks_9 20 rfl rfl)
theorem dX6_looks_230 : decode cX6_looks 230 = .ok (.getfield 106, 3) := dk_180 0 106 (dk_at dksX6_looks_10 0 rfl rfl)
theorem dX6_looks_233 : decode cX6_looks 233 = .ok (.invokevirtual 72, 3) := dk_182 0 72 (dk_at dksX6_looks_10 3 rfl rfl)
theorem dX6_looks_236 : decode cX6_looks 236 = .ok (.if_icmp .ge 69, 3) := dk_162 0 69 (dk_at dksX6_looks_10 6 rfl rfl)
theorem dX6_looks_239 : decode cX6_looks 239 = .ok (.aload_n 0, 1) := dk_42 (dk_at dksX6_looks_10 9 rfl rfl)
theorem dX6_looks_240 : decode cX6_looks 240 = .ok (.iload_n 3, 1) := dk_29 (dk_at dksX6_looks_10 10 rfl rfl)
theorem dX6_looks_241 : decode cX6_looks 241 = .ok (.iload_n 2, 1) := dk_28 (dk_at dksX6_looks_10 11 rfl rfl)
theorem dX6_looks_242 : decode cX6_looks 242 = .ok (.invokevirtual 109, 3) := dk_182 0 109 (dk_at dksX6_looks_10 12 rfl rfl)
theorem dX6_looks_245 : decode cX6_looks 245 = .ok (.ifCond .eq 54, 3) := dk_153 0 54 (dk_at dksX6_looks_10 15 rfl rfl)
theorem dX6_looks_248 : decode cX6_looks 248 = .ok (.aload_n 0, 1) := dk_42 (dk_at dksX6_looks_10 18 rfl rfl)
theorem dX6_looks_249 : decode cX6_looks 249 = .ok (.getfield 19, 3) := dk_180 0 19 (dk_at dksX6_looks_10 19 rfl rfl)
theorem dX6_looks_252 : decode cX6_looks 252 = .ok (.aload_n 0, 1) := dk_42 (dk_at dksX6_looks_10 22 rfl rfl)
theorem dX6_looks_253 : decode cX6_looks 253 = .ok (.getfield 3, 3) := dk_180 0 3 (dk_at dksX6_looks_11 0 rfl rfl)
theorem dX6_looks_256 : decode cX6_looks 256 = .ok (.getfield 56, 3) := dk_180 0 56 (dk_at dksX6_looks_11 3 rfl rfl)
theorem dX6_looks_259 : decode cX6_looks 259 = .ok (.getfield 103, 3) := dk_180 0 103 (dk_at dksX6_looks_11 6 rfl rfl)
theorem dX6_looks_262 : decode cX6_looks 262 = .ok (.aload_n 0, 1) := dk_42 (dk_at dksX6_looks_11 9 rfl rfl)
theorem dX6_looks_263 : decode cX6_looks 263 = .ok (.getfield 3, 3) := dk_180 0 3 (dk_at dksX6_looks_11 10 rfl rfl)
theorem dX6_looks_266 : decode cX6_looks 266 = .ok (.getfield 56, 3) := dk_180 0 56 (dk_at dksX6_looks_11 13 rfl rfl)
theorem dX6_looks_269 : decode cX6_looks 269 = .ok (.getfield 106, 3) := dk_180 0 106 (dk_at dksX6_looks_11 16 rfl rfl)
theorem dX6_looks_272 : decode cX6_looks 272 = .ok (.iload_n 3, 1) := dk_29 (dk_at dksX6_looks_11 19 rfl rfl)
theorem dX6_looks_273 : decode cX6_looks 273 = .ok (.invokevirtual 78, 3) := dk_182 0 78 (dk_at dksX6_looks_11 20 rfl rfl)
theorem dX6_looks_276 : decode cX6_looks 276 = .ok (.checkcast 82, 3) := dk_192 0 82 (dk_at dksX6_looks_12 0 rfl rfl)
theorem dX6_looks_279 : decode cX6_looks 279 = .ok (.getfield 87, 3) := dk_180 0 87 (dk_at dksX6_looks_12 3 rfl rfl)
theorem dX6_looks_282 : decode cX6_looks 282 = .ok (.iaload, 1) := dk_46 (dk_at dksX6_looks_12 6 rfl rfl)
theorem dX6_looks_283 : decode cX6_looks 283 = .ok (.dup2, 1) := dk_92 (dk_at dksX6_looks_12 7 rfl rfl)
theorem dX6_looks_284 : decode cX6_looks 284 = .ok (.iaload, 1) := dk_46 (dk_at dksX6_looks_12 8 rfl rfl)
theorem dX6_looks_285 : decode cX6_looks 285 = .ok (.aload_n 0, 1) := dk_42 (dk_at dksX6_looks_12 9 rfl rfl)
theorem dX6_looks_286 : decode cX6_looks 286 = .ok (.getfield 3, 3) := dk_180 0 3 (dk_at dksX6_looks_12 10 rfl rfl)
theorem dX6_looks_289 : decode cX6_looks 289 = .ok (.getfield 56, 3) := dk_180 0 56 (dk_at dksX6_looks_12 13 rfl rfl)
theorem dX6_looks_292 : decode cX6_looks 292 = .ok (.getfield 113, 3) := dk_180 0 113 (dk_at dksX6_looks_12 16 rfl rfl)
theorem dX6_looks_295 : decode cX6_looks 295 = .ok (.iload_n 3, 1) := dk_29 (dk_at dksX6_looks_12 19 rfl rfl)
theorem dX6_looks_296 : decode cX6_looks 296 = .ok (.iaload, 1) := dk_46 (dk_at dksX6_looks_12 20 rfl rfl)
theorem dX6_looks_297 : decode cX6_looks 297 = .ok (.iadd, 1) := dk_96 (dk_at dksX6_looks_12 21 rfl rfl)
theorem dX6_looks_298 : decode cX6_looks 298 = .ok (.iastore, 1) := dk_79 (dk_at dksX6_looks_12 22 rfl rfl)
theorem dX6_looks_299 : decode cX6_looks 299 = .ok (.iinc 3 1, 3) := dk_132 3 1 (dk_at dksX6_looks_13 0 rfl rfl)
theorem dX6_looks_302 : decode cX6_looks 302 = .ok (.goto (-80), 3) := dk_167 255 176 (dk_at dksX6_looks_13 3 rfl rfl)
theorem dX6_looks_305 : decode cX6_looks 305 = .ok (.iconst 0, 1) := dk_3 (dk_at dksX6_looks_13 6 rfl rfl)
theorem dX6_looks_306 : decode cX6_looks 306 = .ok (.istore_n 3, 1) := dk_62 (dk_at dksX6_looks_13 7 rfl rfl)
theorem dX6_looks_307 : decode cX6_looks 307 = .ok (.iload_n 3, 1) := dk_29 (dk_at dksX6_looks_13 8 rfl rfl)
theorem dX6_looks_308 : decode cX6_looks 308 = .ok (.aload_n 0, 1) := dk_42 (dk_at dksX6_looks_13 9 rfl rfl)
theorem dX6_looks_309 : decode cX6_looks 309 = .ok (.getfield 3, 3) := dk_180 0 3 (dk_at dksX6_looks_13 10 rfl rfl)
theorem dX6_looks_312 : decode cX6_looks 312 = .ok (.getfield 56, 3) := dk_180 0 56 (dk_at dksX6_looks_13 13 rfl rfl)
theorem dX6_looks_315 : decode cX6_looks 315 = .ok (.getfield 60, 3) := dk_180 0 60 (dk_at dksX6_looks_13 16 rfl rfl)
theorem dX6_looks_318 : decode cX6_looks 318 = .ok (.if_icmp .ge 14, 3) := dk_162 0 14 (dk_at dksX6_looks_13 19 rfl rfl)
theorem dX6_looks_321 : decode cX6_looks 321 = .ok (.aload_n 0, 1) := dk_42 (dk_at dksX6_looks_13 22 rfl rfl)
theorem dX6_looks_322 : decode cX6_looks 322 = .ok (.iload_n 3, 1) := dk_29 (dk_at dksX6_looks_13 23 rfl rfl)
theorem dX6_looks_323 : decode cX6_looks 323 = .ok (.invokevirtual 116, 3) := dk_182 0 116 (dk_at dksX6_looks_14 0 rfl rfl)
theorem dX6_looks_326 : decode cX6_looks 326 = .ok (.iinc 3 1, 3) := dk_132 3 1 (dk_at dksX6_looks_14 3 rfl rfl)
theorem dX6_looks_329 : decode cX6_looks 329 = .ok (.goto (-22), 3) := dk_167 255 234 (dk_at dksX6_looks_14 6 rfl rfl)
theorem dX6_looks_332 : decode cX6_looks 332 = .ok (.iconst 0, 1) := dk_3 (dk_at dksX6_looks_14 9 rfl rfl)
theorem dX6_looks_333 : decode cX6_looks 333 = .ok (.istore_n 3, 1) := dk_62 (dk_at dksX6_looks_14 10 rfl rfl)
theorem dX6_looks_334 : decode cX6_looks 334 = .ok (.iload_n 3, 1) := dk_29 (dk_at dksX6_looks_14 11 rfl rfl)
theorem dX6_looks_335 : decode cX6_looks 335 = .ok (.aload_n 0, 1) := dk_42 (dk_at dksX6_looks_14 12 rfl rfl)
theorem dX6_looks_336 : decode cX6_looks 336 = .ok (.getfield 3, 3) := dk_180 0 3 (dk_at dksX6_looks_14 13 rfl rfl)
theorem dX6_looks_339 : decode cX6_looks 339 = .ok (.getfield 56, 3) := dk_180 0 56 (dk_at dksX6_looks_14 16 rfl rfl)
theorem dX6_looks_342 : decode cX6_looks 342 = .ok (.getfield 106, 3) := dk_180 0 106 (dk_at dksX6_looks_14 19 rfl rfl)
theorem dX6_looks_345 : decode cX6_looks 345 = .ok (.invokevirtual 72, 3) := dk_182 0 72 (dk_at dksX6_looks_15 0 rfl rfl)
theorem dX6_looks_348 : decode cX6_looks 348 = .ok (.if_icmp .ge 105, 3) := dk_162 0 105 (dk_at dksX6_looks_15 3 rfl rfl)
theorem dX6_looks_351 : decode cX6_looks 351 = .ok (.aload_n 0, 1) := dk_42 (dk_at dksX6_looks_15 6 rfl rfl)
theorem dX6_looks_352 : decode cX6_looks 352 = .ok (.getfield 3, 3) := dk_180 0 3 (dk_at dksX6_looks_15 7 rfl rfl)
theorem dX6_looks_355 : decode cX6_looks 355 = .ok (.getfield 56, 3) := dk_180 0 56 (dk_at dksX6_looks_15 10 rfl rfl)
theorem dX6_looks_358 : decode cX6_looks 358 = .ok (.getfield 106, 3) := dk_180 0 106 (dk_at dksX6_looks_15 13 rfl rfl)
theorem dX6_looks_361 : decode cX6_looks 361 = .ok (.iload_n 3, 1) := dk_29 (dk_at dksX6_looks_15 16 rfl rfl)
theorem dX6_looks_362 : decode cX6_looks 362 = .ok (.invokevirtual 78, 3) := dk_182 0 78 (dk_at dksX6_looks_15 17 rfl rfl)
theorem dX6_looks_365 : decode cX6_looks 365 = .ok (.checkcast 82, 3) := dk_192 0 82 (dk_at dksX6_looks_15 20 rfl rfl)
theorem dX6_looks_368 : decode cX6_looks 368 = .ok (.astore 4, 2) := dk_58 4 (dk_at dksX6_looks_16 0 rfl rfl)
theorem dX6_looks_370 : decode cX6_looks 370 = .ok (.aload_n 0, 1) := dk_42 (dk_at dksX6_looks_16 2 rfl rfl)
theorem dX6_looks_371 : decode cX6_looks 371 = .ok (.getfield 3, 3) := dk_180 0 3 (dk_at dksX6_looks_16 3 rfl rfl)
theorem dX6_looks_374 : decode cX6_looks 374 = .ok (.getfield 56, 3) := dk_180 0 56 (dk_at dksX6_looks_16 6 rfl rfl)
theorem dX6_looks_377 : decode cX6_looks 377 = .ok (.getfield 103, 3) := dk_180 0 103 (dk_at dksX6_looks_16 9 rfl rfl)
theorem dX6_looks_380 : decode cX6_looks 380 = .ok (.aload 4, 2) := dk_25 4 (dk_at dksX6_looks_16 12 rfl rfl)
theorem dX6_looks_382 : decode cX6_looks 382 = .ok (.getfield 87, 3) := dk_180 0 87 (dk_at dksX6_looks_16 14 rfl rfl)
theorem dX6_looks_385 : decode cX6_looks 385 = .ok (.iaload, 1) := dk_46 (dk_at dksX6_looks_16 17 rfl rfl)
theorem dX6_looks_386 : decode cX6_looks 386 = .ok (.istore 5, 2) := dk_54 5 (dk_at dksX6_looks_16 18 rfl rfl)
theorem dX6_looks_388 : decode cX6_looks 388 = .ok (.aload_n 0, 1) := dk_42 (dk_at dksX6_looks_16 20 rfl rfl)
theorem dX6_looks_389 : decode cX6_looks 389 = .ok (.iload_n 3, 1) := dk_29 (dk_at dksX6_looks_16 21 rfl rfl)
theorem dX6_looks_390 : decode cX6_looks 390 = .ok (.iload_n 2, 1) := dk_28 (dk_at dksX6_looks_16 22 rfl rfl)
theorem dX6_looks_391 : decode cX6_looks 391 = .ok (.invokevirtual 109, 3) := dk_182 0 109 (dk_at dksX6_looks_17 0 rfl rfl)
theorem dX6_looks_394 : decode cX6_looks 394 = .ok (.ifCond .eq 53, 3) := dk_153 0 53 (dk_at dksX6_looks_17 3 rfl rfl)
theorem dX6_looks_397 : decode cX6_looks 397 = .ok (.aload_n 0, 1) := dk_42 (dk_at dksX6_looks_17 6 rfl rfl)
theorem dX6_looks_398 : decode cX6_looks 398 = .ok (.getfield 32, 3) := dk_180 0 32 (dk_at dksX6_looks_17 7 rfl rfl)
theorem dX6_looks_401 : decode cX6_looks 401 = .ok (.bipush 10, 2) := dk_16 10 (dk_at dksX6_looks_17 10 rfl rfl)
theorem dX6_looks_403 : decode cX6_looks 403 = .ok (.iload 5, 2) := dk_21 5 (dk_at dksX6_looks_17 12 rfl rfl)
theorem dX6_looks_405 : decode cX6_looks 405 = .ok (.imul, 1) := dk_104 (dk_at dksX6_looks_17 14 rfl rfl)
theorem dX6_looks_406 : decode cX6_looks 406 = .ok (.aload 4, 2) := dk_25 4 (dk_at dksX6_looks_17 15 rfl rfl)
theorem dX6_looks_408 : decode cX6_looks 408 = .ok (.getfield 93, 3) := dk_180 0 93 (dk_at dksX6_looks_17 17 rfl rfl)
theorem dX6_looks_411 : decode cX6_looks 411 = .ok (.iadd, 1) := dk_96 (dk_at dksX6_looks_17 20 rfl rfl)
theorem dX6_looks_412 : decode cX6_looks 412 = .ok (.baload, 1) := dk_51 (dk_at dksX6_looks_17 21 rfl rfl)
theorem dX6_looks_413 : decode cX6_looks 413 = .ok (.ifCond .ne 34, 3) := dk_154 0 34 (dk_at dksX6_looks_18 0 rfl rfl)
theorem dX6_looks_416 : decode cX6_looks 416 = .ok (.aload_n 0, 1) := dk_42 (dk_at dksX6_looks_18 3 rfl rfl)
theorem dX6_looks_417 : decode cX6_looks 417 = .ok (.getfield 22, 3) := dk_180 0 22 (dk_at dksX6_looks_18 4 rfl rfl)
theorem dX6_looks_420 : decode cX6_looks 420 = .ok (.bipush 8, 2) := dk_16 8 (dk_at dksX6_looks_18 7 rfl rfl)
theorem dX6_looks_422 : decode cX6_looks 422 = .ok (.iload 5, 2) := dk_21 5 (dk_at dksX6_looks_18 9 rfl rfl)
theorem dX6_looks_424 : decode cX6_looks 424 = .ok (.imul, 1) := dk_104 (dk_at dksX6_looks_18 11 rfl rfl)
theorem dX6_looks_425 : decode cX6_looks 425 = .ok (.aload 4, 2) := dk_25 4 (dk_at dksX6_looks_18 12 rfl rfl)
theorem dX6_looks_427 : decode cX6_looks 427 = .ok (.getfield 90, 3) := dk_180 0 90 (dk_at dksX6_looks_18 14 rfl rfl)
theorem dX6_looks_430 : decode cX6_looks 430 = .ok (.iadd, 1) := dk_96 (dk_at dksX6_looks_18 17 rfl rfl)
theorem dX6_looks_431 : decode cX6_looks 431 = .ok (.dup2, 1) := dk_92 (dk_at dksX6_looks_18 18 rfl rfl)
theorem dX6_looks_432 : decode cX6_looks 432 = .ok (.iaload, 1) := dk_46 (dk_at dksX6_looks_18 19 rfl rfl)
theorem dX6_looks_433 : decode cX6_looks 433 = .ok (.aload_n 0, 1) := dk_42 (dk_at dksX6_looks_18 20 rfl rfl)
theorem dX6_looks_434 : decode cX6_looks 434 = .ok (.getfield 3, 3) := dk_180 0 3 (dk_at dksX6_looks_18 21 rfl rfl)
theorem dX6_looks_437 : decode cX6_looks 437 = .ok (.getfield 56, 3) := dk_180 0 56 (dk_at dksX6_looks_19 0 rfl rfl)
theorem dX6_looks_440 : decode cX6_looks 440 = .ok (.getfield 113, 3) := dk_180 0 113 (dk_at dksX6_looks_19 3 rfl rfl)
theorem dX6_looks_443 : decode cX6_looks 443 = .ok (.iload_n 3, 1) := dk_29 (dk_at dksX6_looks_19 6 rfl rfl)
theorem dX6_looks_444 : decode cX6_looks 444 = .ok (.iaload, 1) := dk_46 (dk_at dksX6_looks_19 7 rfl rfl)
theorem dX6_looks_445 : decode cX6_looks 445 = .ok (.iadd, 1) := dk_96 (dk_at dksX6_looks_19 8 rfl rfl)
theorem dX6_looks_446 : decode cX6_looks 446 = .ok (.iastore, 1) := dk_79 (dk_at dksX6_looks_19 9 rfl rfl)
theorem dX6_looks_447 : decode cX6_looks 447 = .ok (.iinc 3 1, 3) := dk_132 3 1 (dk_at dksX6_looks_19 10 rfl rfl)
theorem dX6_looks_450 : decode cX6_looks 450 = .ok (.goto (-116), 3) := dk_167 255 140 (dk_at dksX6_looks_19 13 rfl rfl)
theorem dX6_looks_453 : decode cX6_looks 453 = .ok (.return_, 1) := dk_177 (dk_at dksX6_looks_19 16 rfl rfl)
def dkwX6_empties_2 : List UInt8 := [167, 255, 235, 42, 180, 0, 19, 27, 3, 79, 42, 180, 0, 29, 27, 3, 84, 177]
abbrev dktX6_empties_2 : List UInt8 := dkwX6_empties_2 ++ []
def dkwX6_empties_1 : List UInt8 := [3, 61, 28, 16, 8, 162, 0, 21, 42, 180, 0, 22, 16, 8, 27, 104, 28, 96, 3, 79, 132, 2, 1]
abbrev dktX6_empties_1 : List UInt8 := dkwX6_empties_1 ++ dktX6_empties_2
def dkwX6_empties_0 : List UInt8 := [3, 61, 28, 7, 162, 0, 20, 42, 180, 0, 15, 7, 27, 104, 28, 96, 3, 79, 132, 2, 1, 167, 255, 237]
abbrev dktX6_empties_0 : List UInt8 := dkwX6_empties_0 ++ dktX6_empties_1
theorem dksX6_empties_0 : cX6_empties.data.toList.drop 0 = dktX6_empties_0 := by decide +kernel
theorem dksX6_empties_1 : cX6_empties.data.toList.drop 24 = dktX6_empties_1 := dk_seg dksX6_empties_0 24 rfl rfl
theorem dksX6_empties_2 : cX6_empties.data.toList.drop 47 = dktX6_empties_2 := dk_seg dksX6_empties_1 23 rfl rfl
theorem dX6_empties_0 : decode cX6_empties 0 = .ok (.iconst 0, 1) := dk_3 (dk_at dksX6_empties_0 0 rfl rfl)
theorem dX6_empties_1 : decode cX6_empties 1 = .ok (.istore_n 2, 1) := dk_61 (dk_at dksX6_empties_0 1 rfl rfl)
theorem dX6_empties_2 : decode cX6_empties 2 = .ok (.iload_n 2, 1) := dk_28 (dk_at dksX6_empties_0 2 rfl rfl)
theorem dX6_empties_3 : decode cX6_empties 3 = .ok (.iconst 4, 1) := dk_7 (dk_at dksX6_empties_0 3 rfl rfl)
theorem dX6_empties_4 : decode cX6_empties 4 = .ok (.if_icmp .ge 20, 3) := dk_162 0 20 (dk_at dksX6_empties_0 4 rfl rfl)
theorem dX6_empties_7 : decode cX6_empties 7 = .ok (.aload_n 0, 1) := dk_42 (dk_at dksX6_empties_0 7 rfl rfl)
theorem dX6_empties_8 : decode cX6_empties 8 = .ok (.getfield 15, 3) := dk_180 0 15 (dk_at dksX6_empties_0 8 rfl rfl)
theorem dX6_empties_11 : decode cX6_empties 11 = .ok (.iconst 4, 1) := dk_7 (dk_at dksX6_empties_0 11 rfl rfl)
theorem dX6_empties_12 : decode cX6_empties 12 = .ok (.iload_n 1, 1) := dk_27 (dk_at dksX6_empties_0 12 rfl rfl)
theorem dX6_empties_13 : decode cX6_empties 13 = .ok (.imul, 1) := dk_104 (dk_at dksX6_empties_0 13 rfl rfl)
theorem dX6_empties_14 : decode cX6_empties 14 = .ok (.iload_n 2, 1) := dk_28 (dk_at dksX6_empties_0 14 rfl rfl)
theorem dX6_empties_15 : decode cX6_empties 15 = .ok (.iadd, 1) := dk_96 (dk_at dksX6_empties_0 15 rfl rfl)
theorem dX6_empties_16 : decode cX6_empties 16 = .ok (.iconst 0, 1) := dk_3 (dk_at dksX6_empties_0 16 rfl rfl)
theorem dX6_empties_17 : decode cX6_empties 17 = .ok (.iastore, 1) := dk_79 (dk_at dksX6_empties_0 17 rfl rfl)
theorem dX6_empties_18 : decode cX6_empties 18 = .ok (.iinc 2 1, 3) := dk_132 2 1 (dk_at dksX6_empties_0 18 rfl rfl)
theorem dX6_empties_21 : decode cX6_empties 21 = .ok (.goto (-19), 3) := dk_167 255 237 (dk_at dksX6_empties_0 21 rfl rfl)
theorem dX6_empties_24 : decode cX6_empties 24 = .ok (.iconst 0, 1) := dk_3 (dk_at dksX6_empties_1 0 rfl rfl)
theorem dX6_empties_25 : decode cX6_empties 25 = .ok (.istore_n 2, 1) := dk_61 (dk_at dksX6_empties_1 1 rfl rfl)
theorem dX6_empties_26 : decode cX6_empties 26 = .ok (.iload_n 2, 1) := dk_28 (dk_at dksX6_empties_1 2 rfl rfl)
theorem dX6_empties_27 : decode cX6_empties 27 = .ok (.bipush 8, 2) := dk_16 8 (dk_at dksX6_empties_1 3 rfl rfl)
theorem dX6_empties_29 : decode cX6_empties 29 = .ok (.if_icmp .ge 21, 3) := dk_162 0 21 (dk_at dksX6_empties_1 5 rfl rfl)
theorem dX6_empties_32 : decode cX6_empties 32 = .ok (.aload_n 0, 1) := dk_42 (dk_at dksX6_empties_1 8 rfl rfl)
theorem dX6_empties_33 : decode cX6_empties 33 = .ok (.getfield 22, 3) := dk_180 0 22 (dk_at dksX6_empties_1 9 rfl rfl)
theorem dX6_empties_36 : decode cX6_empties 36 = .ok (.bipush 8, 2) := dk_16 8 (dk_at dksX6_empties_1 12 rfl rfl)
theorem dX6_empties_38 : decode cX6_empties 38 = .ok (.iload_n 1, 1) := dk_27 (dk_at dksX6_empties_1 14 rfl rfl)
theorem dX6_empties_39 : decode cX6_empties 39 = .ok (.imul, 1) := dk_104 (dk_at dksX6_empties_1 15 rfl rfl)
theorem dX6_empties_40 : decode cX6_empties 40 = .ok (.iload_n 2, 1) := dk_28 (dk_at dksX6_empties_1 16 rfl rfl)
theorem dX6_empties_41 : decode cX6_empties 41 = .ok (.iadd, 1) := dk_96 (dk_at dksX6_empties_1 17 rfl rfl)
theorem dX6_empties_42 : decode cX6_empties 42 = .ok (.iconst 0, 1) := dk_3 (dk_at dksX6_empties_1 18 rfl rfl)
theorem dX6_empties_43 : decode cX6_empties 43 = .ok (.iastore, 1) := dk_79 (dk_at dksX6_empties_1 19 rfl rfl)
theorem dX6_empties_44 : decode cX6_empties 44 = .ok (.iinc 2 1, 3) := dk_132 2 1 (dk_at dksX6_empties_1 20 rfl rfl)
theorem dX6_empties_47 : decode cX6_empties 47 = .ok (.goto (-21), 3) := dk_167 255 235 (dk_at dksX6_empties_2 0 rfl rfl)
theorem dX6_empties_50 : decode cX6_empties 50 = .ok (.aload_n 0, 1) := dk_42 (dk_at dksX6_empties_2 3 rfl rfl)
theorem dX6_empties_51 : decode cX6_empties 51 = .ok (.getfield 19, 3) := dk_180 0 19 (dk_at dksX6_empties_2 4 rfl rfl)
theorem dX6_empties_54 : decode cX6_empties 54 = .ok (.iload_n 1, 1) := dk_27 (dk_at dksX6_empties_2 7 rfl rfl)
theorem dX6_empties_55 : decode cX6_empties 55 = .ok (.iconst 0, 1) := dk_3 (dk_at dksX6_empties_2 8 rfl rfl)
theorem dX6_empties_56 : decode cX6_empties 56 = .ok (.iastore, 1) := dk_79 (dk_at dksX6_empties_2 9 rfl rfl)
theorem dX6_empties_57 : decode cX6_empties 57 = .ok (.aload_n 0, 1) := dk_42 (dk_at dksX6_empties_2 10 rfl rfl)
theorem dX6_empties_58 : decode cX6_empties 58 = .ok (.getfield 29, 3) := dk_180 0 29 (dk_at dksX6_empties_2 11 rfl rfl)
theorem dX6_empties_61 : decode cX6_empties 61 = .ok (.iload_n 1, 1) := dk_27 (dk_at dksX6_empties_2 14 rfl rfl)
theorem dX6_empties_62 : decode cX6_empties 62 = .ok (.iconst 0, 1) := dk_3 (dk_at dksX6_empties_2 15 rfl rfl)
theorem dX6_empties_63 : decode cX6_empties 63 = .ok (.bastore, 1) := dk_84 (dk_at dksX6_empties_2 16 rfl rfl)
theorem dX6_empties_64 : decode cX6_empties 64 = .ok (.return_, 1) := dk_177 (dk_at dksX6_empties_2 17 rfl rfl)
def dkwX6_isLast_5 : List UInt8 := [3, 172, 132, 4, 1, 167, 255, 168, 4, 172]
abbrev dktX6_isLast_5 : List UInt8 := dkwX6_isLast_5 ++ []
def dkwX6_isLast_4 : List UInt8 := [25, 5, 180, 0, 90, 45, 180, 0, 90, 160, 0, 17, 25, 5, 180, 0, 93, 45, 180, 0, 93, 160, 0, 5]
abbrev dktX6_isLast_4 : List UInt8 := dkwX6_isLast_4 ++ dktX6_isLast_5
def dkwX6_isLast_3 : List UInt8 := [58, 5, 25, 5, 180, 0, 84, 28, 163, 0, 41, 25, 5, 180, 0, 87, 45, 180, 0, 87, 160, 0, 29]
abbrev dktX6_isLast_3 : List UInt8 := dkwX6_isLast_3 ++ dktX6_isLast_4
def dkwX6_isLast_2 : List UInt8 := [182, 0, 72, 162, 0, 76, 42, 180, 0, 3, 180, 0, 56, 180, 0, 106, 21, 4, 182, 0, 78, 192, 0, 82]
abbrev dktX6_isLast_2 : List UInt8 := dkwX6_isLast_2 ++ dktX6_isLast_3
def dkwX6_isLast_1 : List UInt8 := [164, 0, 5, 3, 172, 27, 4, 96, 54, 4, 21, 4, 42, 180, 0, 3, 180, 0, 56, 180, 0, 106]
abbrev dktX6_isLast_1 : List UInt8 := dkwX6_isLast_1 ++ dktX6_isLast_2
def dkwX6_isLast_0 : List UInt8 := [42, 180, 0, 3, 180, 0, 56, 180, 0, 106, 27, 182, 0, 78, 192, 0, 82, 78, 45, 180, 0, 84, 28]
abbrev dktX6_isLast_0 : List UInt8 := dkwX6_isLast_0 ++ dktX6_isLast_1
theorem dksX6_isLast_0 : cX6_isLast.data.toList.drop 0 = dktX6_isLast_0 := by decide +kernel
theorem dksX6_isLast_1 : cX6_isLast.data.toList.drop 23 = dktX6_isLast_1 := dk_seg dksX6_isLast_0 23 rfl rfl
theorem dksX6_isLast_2 : cX6_isLast.data.toList.drop 45 = dktX6_isLast_2 := dk_seg dksX6_isLast_1 22 rfl rfl
theorem dksX6_isLast_3 : cX6_isLast.data.toList.drop 69 = dktX6_isLast_3 := dk_seg dksX6_isLast_2 24 rfl rfl
theorem dksX6_isLast_4 : cX6_isLast.data.toList.drop 92 = dktX6_isLast_4 := dk_seg dksX6_isLast_3 23 rfl rfl
theorem dksX6_isLast_5 : cX6_isLast.data.toList.drop 116 = dktX6_isLast_5 := dk_seg dksX6_isLast_4 24 rfl rfl
theorem dX6_isLast_0 : decode cX6_isLast 0 = .ok (.aload_n 0, 1) := dk_42 (dk_at dksX6_isLast_0 0 rfl rfl)
theorem dX6_isLast_1 : decode cX6_isLast 1 = .ok (.getfield 3, 3) := dk_180 0 3 (dk_at dksX6_isLast_0 1 rfl rfl)
theorem dX6_isLast_4 : decode cX6_isLast 4 = .ok (.getfield 56, 3) := dk_180 0 56 (dk_at dksX6_isLast_0 4 rfl rfl)
theorem dX6_isLast_7 : decode cX6_isLast 7 = .ok (.getfield 106, 3) := dk_180 0 106 (dk_at dksX6_isLast_0 7 rfl rfl)
theorem dX6_isLast_10 : decode cX6_isLast 10 = .ok (.iload_n 1, 1) := dk_27 (dk_at dksX6_isLast_0 10 rfl rfl)
theorem dX6_isLast_11 : decode cX6_isLast 11 = .ok (.invokevirtual 78, 3) := dk_182 0 78 (dk_at dksX6_isLast_0 11 rfl rfl)
theorem dX6_isLast_14 : decode cX6_isLast 14 = .ok (.checkcast 82, 3) := dk_192 0 82 (dk_at dksX6_isLast_0 14 rfl rfl)
theorem dX6_isLast_17 : decode cX6_isLast 17 = .ok (.astore_n 3, 1) := dk_78 (dk_at dksX6_isLast_0 17 rfl rfl)
theorem dX6_isLast_18 : decode cX6_isLast 18 = .ok (.aload_n 3, 1) := dk_45 (dk_at dksX6_isLast_0 18 rfl rfl)
theorem dX6_isLast_19 : decode cX6_isLast 19 = .ok (.getfield 84, 3) := dk_180 0 84 (dk_at dksX6_isLast_0 19 rfl rfl)
theorem dX6_isLast_22 : decode cX6_isLast 22 = .ok (.iload_n 2, 1) := dk_28 (dk_at dksX6_isLast_0 22 rfl rfl)
theorem dX6_isLast_23 : decode cX6_isLast 23 = .ok (.if_icmp .le 5, 3) := dk_164 0 5 (dk_at dksX6_isLast_1 0 rfl rfl)
theorem dX6_isLast_26 : decode cX6_isLast 26 = .ok (.iconst 0, 1) := dk_3 (dk_at dksX6_isLast_1 3 rfl rfl)
theorem dX6_isLast_27 : decode cX6_isLast 27 = .ok (.ireturn, 1) := dk_172 (dk_at dksX6_isLast_1 4 rfl rfl)
theorem dX6_isLast_28 : decode cX6_isLast 28 = .ok (.iload_n 1, 1) := dk_27 (dk_at dksX6_isLast_1 5 rfl rfl)
theorem dX6_isLast_29 : decode cX6_isLast 29 = .ok (.iconst 1, 1) := dk_4 (dk_at dksX6_isLast_1 6 rfl rfl)
theorem dX6_isLast_30 : decode cX6_isLast 30 = .ok (.iadd, 1) := dk_96 (dk_at dksX6_isLast_1 7 rfl rfl)
theorem dX6_isLast_31 : decode cX6_isLast 31 = .ok (.istore 4, 2) := dk_54 4 (dk_at dksX6_isLast_1 8 rfl rfl)
theorem dX6_isLast_33 : decode cX6_isLast 33 = .ok (.iload 4, 2) := dk_21 4 (dk_at dksX6_isLast_1 10 rfl rfl)
theorem dX6_isLast_35 : decode cX6_isLast 35 = .ok (.aload_n 0, 1) := dk_42 (dk_at dksX6_isLast_1 12 rfl rfl)
theorem dX6_isLast_36 : decode cX6_isLast 36 = .ok (.getfield 3, 3) := dk_180 0 3 (dk_at dksX6_isLast_1 13 rfl rfl)
theorem dX6_isLast_39 : decode cX6_isLast 39 = .ok (.getfield 56, 3) := dk_180 0 56 (dk_at dksX6_isLast_1 16 rfl rfl)
theorem dX6_isLast_42 : decode cX6_isLast 42 = .ok (.getfield 106, 3) := dk_180 0 106 (dk_at dksX6_isLast_1 19 rfl rfl)
theorem dX6_isLast_45 : decode cX6_isLast 45 = .ok (.invokevirtual 72, 3) := dk_182 0 72 (dk_at dksX6_isLast_2 0 rfl rfl)
theorem dX6_isLast_48 : decode cX6_isLast 48 = .ok (.if_icmp .ge 76, 3) := dk_162 0 76 (dk_at dksX6_isLast_2 3 rfl rfl)
theorem dX6_isLast_51 : decode cX6_isLast 51 = .ok (.aload_n 0, 1) := dk_42 (dk_at dksX6_isLast_2 6 rfl rfl)
theorem dX6_isLast_52 : decode cX6_isLast 52 = .ok (.getfield 3, 3) := dk_180 0 3 (dk_at dksX6_isLast_2 7 rfl rfl)
theorem dX6_isLast_55 : decode cX6_isLast 55 = .ok (.getfield 56, 3) := dk_180 0 56 (dk_at dksX6_isLast_2 10 rfl rfl)
theorem dX6_isLast_58 : decode cX6_isLast 58 = .ok (.getfield 106, 3) := dk_180 0 106 (dk_at dksX6_isLast_2 13 rfl rfl)
theorem dX6_isLast_61 : decode cX6_isLast 61 = .ok (.iload 4, 2) := dk_21 4 (dk_at dksX6_isLast_2 16 rfl rfl)
theorem dX6_isLast_63 : decode cX6_isLast 63 = .ok (.invokevirtual 78, 3) := dk_182 0 78 (dk_at dksX6_isLast_2 18 rfl rfl)
theorem dX6_isLast_66 : decode cX6_isLast 66 = .ok (.checkcast 82, 3) := dk_192 0 82 (dk_at dksX6_isLast_2 21 rfl rfl)
theorem dX6_isLast_69 : decode cX6_isLast 69 = .ok (.astore 5, 2) := dk_58 5 (dk_at dksX6_isLast_3 0 rfl rfl)
theorem dX6_isLast_71 : decode cX6_isLast 71 = .ok (.aload 5, 2) := dk_25 5 (dk_at dksX6_isLast_3 2 rfl rfl)
theorem dX6_isLast_73 : decode cX6_isLast 73 = .ok (.getfield 84, 3) := dk_180 0 84 (dk_at dksX6_isLast_3 4 rfl rfl)
theorem dX6_isLast_76 : decode cX6_isLast 76 = .ok (.iload_n 2, 1) := dk_28 (dk_at dksX6_isLast_3 7 rfl rfl)
theorem dX6_isLast_77 : decode cX6_isLast 77 = .ok (.if_icmp .gt 41, 3) := dk_163 0 41 (dk_at dksX6_isLast_3 8 rfl rfl)
theorem dX6_isLast_80 : decode cX6_isLast 80 = .ok (.aload 5, 2) := dk_25 5 (dk_at dksX6_isLast_3 11 rfl rfl)
theorem dX6_isLast_82 : decode cX6_isLast 82 = .ok (.getfield 87, 3) := dk_180 0 87 (dk_at dksX6_isLast_3 13 rfl rfl)
theorem dX6_isLast_85 : decode cX6_isLast 85 = .ok (.aload_n 3, 1) := dk_45 (dk_at dksX6_isLast_3 16 rfl rfl)
theorem dX6_isLast_86 : decode cX6_isLast 86 = .ok (.getfield 87, 3) := dk_180 0 87 (dk_at dksX6_isLast_3 17 rfl rfl)
theorem dX6_isLast_89 : decode cX6_isLast 89 = .ok (.if_icmp .ne 29, 3) := dk_160 0 29 (dk_at dksX6_isLast_3 20 rfl rfl)
theorem dX6_isLast_92 : decode cX6_isLast 92 = .ok (.aload 5, 2) := dk_25 5 (dk_at dksX6_isLast_4 0 rfl rfl)
theorem dX6_isLast_94 : decode cX6_isLast 94 = .ok (.getfield 90, 3) := dk_180 0 90 (dk_at dksX6_isLast_4 2 rfl rfl)
theorem dX6_isLast_97 : decode cX6_isLast 97 = .ok (.aload_n 3, 1) := dk_45 (dk_at dksX6_isLast_4 5 rfl rfl)
theorem dX6_isLast_98 : decode cX6_isLast 98 = .ok (.getfield 90, 3) := dk_180 0 90 (dk_at dksX6_isLast_4 6 rfl rfl)
theorem dX6_isLast_101 : decode cX6_isLast 101 = .ok (.if_icmp .ne 17, 3) := dk_160 0 17 (dk_at dksX6_isLast_4 9 rfl rfl)
theorem dX6_isLast_104 : decode cX6_isLast 104 = .ok (.aload 5, 2) := dk_25 5 (dk_at dksX6_isLast_4 12 rfl rfl)
theorem dX6_isLast_106 : decode cX6_isLast 106 = .ok (.getfield 93, 3) := dk_180 0 93 (dk_at dksX6_isLast_4 14 rfl rfl)
theorem dX6_isLast_109 : decode cX6_isLast 109 = .ok (.aload_n 3, 1) := dk_45 (dk_at dksX6_isLast_4 17 rfl rfl)
theorem dX6_isLast_110 : decode cX6_isLast 110 = .ok (.getfield 93, 3) := dk_180 0 93 (dk_at dksX6_isLast_4 18 rfl rfl)
theorem dX6_isLast_113 : decode cX6_isLast 113 = .ok (.if_icmp .ne 5, 3) := dk_160 0 5 (dk_at dksX6_isLast_4 21 rfl rfl)
theorem dX6_isLast_116 : decode cX6_isLast 116 = .ok (.iconst 0, 1) := dk_3 (dk_at dksX6_isLast_5 0 rfl rfl)
theorem dX6_isLast_117 : decode cX6_isLast 117 = .ok (.ireturn, 1) := dk_172 (dk_at dksX6_isLast_5 1 rfl rfl)
theorem dX6_isLast_118 : decode cX6_isLast 118 = .ok (.iinc 4 1, 3) := dk_132 4 1 (dk_at dksX6_isLast_5 2 rfl rfl)
theorem dX6_isLast_121 : decode cX6_isLast 121 = .ok (.goto (-88), 3) := dk_167 255 168 (dk_at dksX6_isLast_5 5 rfl rfl)
theorem dX6_isLast_124 : decode cX6_isLast 124 = .ok (.iconst 1, 1) := dk_4 (dk_at dksX6_isLast_5 8 rfl rfl)
theorem dX6_isLast_125 : decode cX6_isLast 125 = .ok (.ireturn, 1) := dk_172 (dk_at dksX6_isLast_5 9 rfl rfl)
def dkwX6_asksAll_9 : List UInt8 := [7, 3, 42, 180, 0, 35, 182, 0, 142, 20, 0, 146, 148, 153, 0, 7, 4, 167, 0, 4, 3, 84, 177]
abbrev dktX6_asksAll_9 : List UInt8 := dkwX6_asksAll_9 ++ []
def dkwX6_asksAll_8 : List UInt8 := [153, 0, 7, 4, 167, 0, 4, 3, 84, 132, 2, 1, 167, 255, 211, 42, 180, 0, 25, 27, 42, 180, 0, 3]
abbrev dktX6_asksAll_8 : List UInt8 := dkwX6_asksAll_8 ++ dktX6_asksAll_9
def dkwX6_asksAll_7 : List UInt8 := [16, 10, 27, 104, 28, 96, 42, 180, 0, 3, 6, 28, 42, 180, 0, 35, 182, 0, 142, 20, 0, 146, 148]
abbrev dktX6_asksAll_7 : List UInt8 := dkwX6_asksAll_7 ++ dktX6_asksAll_8
def dkwX6_asksAll_6 : List UInt8 := [180, 0, 139, 7, 42, 180, 0, 29, 27, 51, 84, 3, 61, 28, 16, 10, 162, 0, 45, 42, 180, 0, 32]
abbrev dktX6_asksAll_6 : List UInt8 := dkwX6_asksAll_6 ++ dktX6_asksAll_7
def dkwX6_asksAll_5 : List UInt8 := [180, 0, 125, 180, 0, 129, 16, 10, 42, 27, 182, 0, 135, 133, 80, 42, 180, 0, 3, 180, 0, 125]
abbrev dktX6_asksAll_5 : List UInt8 := dkwX6_asksAll_5 ++ dktX6_asksAll_6
def dkwX6_asksAll_4 : List UInt8 := [180, 0, 125, 180, 0, 129, 16, 9, 42, 180, 0, 15, 7, 27, 104, 5, 96, 46, 133, 80, 42, 180, 0, 3]
abbrev dktX6_asksAll_4 : List UInt8 := dkwX6_asksAll_4 ++ dktX6_asksAll_5
def dkwX6_asksAll_3 : List UInt8 := [180, 0, 3, 180, 0, 125, 180, 0, 129, 16, 8, 42, 180, 0, 19, 27, 46, 133, 80, 42, 180, 0, 3]
abbrev dktX6_asksAll_3 : List UInt8 := dkwX6_asksAll_3 ++ dktX6_asksAll_4
def dkwX6_asksAll_2 : List UInt8 := [180, 0, 3, 180, 0, 125, 180, 0, 129, 16, 7, 42, 180, 0, 15, 7, 27, 104, 4, 96, 46, 133, 80, 42]
abbrev dktX6_asksAll_2 : List UInt8 := dkwX6_asksAll_2 ++ dktX6_asksAll_3
def dkwX6_asksAll_1 : List UInt8 := [180, 0, 3, 180, 0, 125, 180, 0, 129, 16, 6, 42, 180, 0, 15, 7, 27, 104, 46, 133, 80, 42]
abbrev dktX6_asksAll_1 : List UInt8 := dkwX6_asksAll_1 ++ dktX6_asksAll_2
def dkwX6_asksAll_0 : List UInt8 := [42, 180, 0, 3, 42, 180, 0, 3, 180, 0, 56, 180, 0, 119, 27, 46, 42, 180, 0, 35, 182, 0, 122, 42]
abbrev dktX6_asksAll_0 : List UInt8 := dkwX6_asksAll_0 ++ dktX6_asksAll_1
theorem dksX6_asksAll_0 : cX6_asksAll.data.toList.drop 0 = dktX6_asksAll_0 := by decide +kernel
theorem dksX6_asksAll_1 : cX6_asksAll.data.toList.drop 24 = dktX6_asksAll_1 := dk_seg dksX6_asksAll_0 24 rfl rfl
theorem dksX6_asksAll_2 : cX6_asksAll.data.toList.drop 46 = dktX6_asksAll_2 := dk_seg dksX6_asksAll_1 22 rfl rfl
theorem dksX6_asksAll_3 : cX6_asksAll.data.toList.drop 70 = dktX6_asksAll_3 := dk_seg dksX6_asksAll_2 24 rfl rfl
theorem dksX6_asksAll_4 : cX6_asksAll.data.toList.drop 93 = dktX6_asksAll_4 := dk_seg dksX6_asksAll_3 23 rfl rfl
theorem dksX6_asksAll_5 : cX6_asksAll.data.toList.drop 117 = dktX6_asksAll_5 := dk_seg dksX6_asksAll_4 24 rfl rfl
theorem dksX6_asksAll_6 : cX6_asksAll.data.toList.drop 139 = dktX6_asksAll_6 := dk_seg dksX6_asksAll_5 22 rfl rfl
theorem dksX6_asksAll_7 : cX6_asksAll.data.toList.drop 162 = dktX6_asksAll_7 := dk_seg dksX6_asksAll_6 23 rfl rfl
theorem dksX6_asksAll_8 : cX6_asksAll.data.toList.drop 185 = dktX6_asksAll_8 := dk_seg dksX6_asksAll_7 23 rfl rfl
theorem dksX6_asksAll_9 : cX6_asksAll.data.toList.drop 209 = dktX6_asksAll_9 := dk_seg dksX6_asksAll_8 24 rfl rfl
theorem dX6_asksAll_0 : decode cX6_asksAll 0 = .ok (.aload_n 0, 1) := dk_42 (dk_at dksX6_asksAll_0 0 rfl rfl)
theorem dX6_asksAll_1 : decode cX6_asksAll 1 = .ok (.getfield 3, 3) := dk_180 0 3 (dk_at dksX6_asksAll_0 1 rfl rfl)
theorem dX6_asksAll_4 : decode cX6_asksAll 4 = .ok (.aload_n 0, 1) := dk_42 (dk_at dksX6_asksAll_0 4 rfl rfl)
theorem dX6_asksAll_5 : decode cX6_asksAll 5 = .ok (.getfield 3, 3) := dk_180 0 3 (dk_at dksX6_asksAll_0 5 rfl rfl)
theorem dX6_asksAll_8 : decode cX6_asksAll 8 = .ok (.getfield 56, 3) := dk_180 0 56 (dk_at dksX6_asksAll_0 8 rfl rfl)
theorem dX6_asksAll_11 : decode cX6_asksAll 11 = .ok (.getfield 119, 3) := dk_180 0 119 (dk_at dksX6_asksAll_0 11 rfl rfl)
theorem dX6_asksAll_14 : decode cX6_asksAll 14 = .ok (.iload_n 1, 1) := dk_27 (dk_at dksX6_asksAll_0 14 rfl rfl)
theorem dX6_asksAll_15 : decode cX6_asksAll 15 = .ok (.iaload, 1) := dk_46 (dk_at dksX6_asksAll_0 15 rfl rfl)
theorem dX6_asksAll_16 : decode cX6_asksAll 16 = .ok (.aload_n 0, 1) := dk_42 (dk_at dksX6_asksAll_0 16 rfl rfl)
theorem dX6_asksAll_17 : decode cX6_asksAll 17 = .ok (.getfield 35, 3) := dk_180 0 35 (dk_at dksX6_asksAll_0 17 rfl rfl)
theorem dX6_asksAll_20 : decode cX6_asksAll 20 = .ok (.invokevirtual 122, 3) := dk_182 0 122 (dk_at dksX6_asksAll_0 20 rfl rfl)
theorem dX6_asksAll_23 : decode cX6_asksAll 23 = .ok (.aload_n 0, 1) := dk_42 (dk_at dksX6_asksAll_0 23 rfl rfl)
theorem dX6_asksAll_24 : decode cX6_asksAll 24 = .ok (.getfield 3, 3) := dk_180 0 3 (dk_at dksX6_asksAll_1 0 rfl rfl)
theorem dX6_asksAll_27 : decode cX6_asksAll 27 = .ok (.getfield 125, 3) := dk_180 0 125 (dk_at dksX6_asksAll_1 3 rfl rfl)
theorem dX6_asksAll_30 : decode cX6_asksAll 30 = .ok (.getfield 129, 3) := dk_180 0 129 (dk_at dksX6_asksAll_1 6 rfl rfl)
theorem dX6_asksAll_33 : decode cX6_asksAll 33 = .ok (.bipush 6, 2) := dk_16 6 (dk_at dksX6_asksAll_1 9 rfl rfl)
theorem dX6_asksAll_35 : decode cX6_asksAll 35 = .ok (.aload_n 0, 1) := dk_42 (dk_at dksX6_asksAll_1 11 rfl rfl)
theorem dX6_asksAll_36 : decode cX6_asksAll 36 = .ok (.getfield 15, 3) := dk_180 0 15 (dk_at dksX6_asksAll_1 12 rfl rfl)
theorem dX6_asksAll_39 : decode cX6_asksAll 39 = .ok (.iconst 4, 1) := dk_7 (dk_at dksX6_asksAll_1 15 rfl rfl)
theorem dX6_asksAll_40 : decode cX6_asksAll 40 = .ok (.iload_n 1, 1) := dk_27 (dk_at dksX6_asksAll_1 16 rfl rfl)
theorem dX6_asksAll_41 : decode cX6_asksAll 41 = .ok (.imul, 1) := dk_104 (dk_at dksX6_asksAll_1 17 rfl rfl)
theorem dX6_asksAll_42 : decode cX6_asksAll 42 = .ok (.iaload, 1) := dk_46 (dk_at dksX6_asksAll_1 18 rfl rfl)
theorem dX6_asksAll_43 : decode cX6_asksAll 43 = .ok (.i2l, 1) := dk_133 (dk_at dksX6_asksAll_1 19 rfl rfl)
theorem dX6_asksAll_44 : decode cX6_asksAll 44 = .ok (.lastore, 1) := dk_80 (dk_at dksX6_asksAll_1 20 rfl rfl)
theorem dX6_asksAll_45 : decode cX6_asksAll 45 = .ok (.aload_n 0, 1) := dk_42 (dk_at dksX6_asksAll_1 21 rfl rfl)
theorem dX6_asksAll_46 : decode cX6_asksAll 46 = .ok (.getfield 3, 3) := dk_180 0 3 (dk_at dksX6_asksAll_2 0 rfl rfl)
theorem dX6_asksAll_49 : decode cX6_asksAll 49 = .ok (.getfield 125, 3) := dk_180 0 125 (dk_at dksX6_asksAll_2 3 rfl rfl)
theorem dX6_asksAll_52 : decode cX6_asksAll 52 = .ok (.getfield 129, 3) := dk_180 0 129 (dk_at dksX6_asksAll_2 6 rfl rfl)
theorem dX6_asksAll_55 : decode cX6_asksAll 55 = .ok (.bipush 7, 2) := dk_16 7 (dk_at dksX6_asksAll_2 9 rfl rfl)
theorem dX6_asksAll_57 : decode cX6_asksAll 57 = .ok (.aload_n 0, 1) := dk_42 (dk_at dksX6_asksAll_2 11 rfl rfl)
theorem dX6_asksAll_58 : decode cX6_asksAll 58 = .ok (.getfield 15, 3) := dk_180 0 15 (dk_at dksX6_asksAll_2 12 rfl rfl)
theorem dX6_asksAll_61 : decode cX6_asksAll 61 = .ok (.iconst 4, 1) := dk_7 (dk_at dksX6_asksAll_2 15 rfl rfl)
theorem dX6_asksAll_62 : decode cX6_asksAll 62 = .ok (.iload_n 1, 1) := dk_27 (dk_at dksX6_asksAll_2 16 rfl rfl)
theorem dX6_asksAll_63 : decode cX6_asksAll 63 = .ok (.imul, 1) := dk_104 (dk_at dksX6_asksAll_2 17 rfl rfl)
theorem dX6_asksAll_64 : decode cX6_asksAll 64 = .ok (.iconst 1, 1) := dk_4 (dk_at dksX6_asksAll_2 18 rfl rfl)
theorem dX6_asksAll_65 : decode cX6_asksAll 65 = .ok (.iadd, 1) := dk_96 (dk_at dksX6_asksAll_2 19 rfl rfl)
theorem dX6_asksAll_66 : decode cX6_asksAll 66 = .ok (.iaload, 1) := dk_46 (dk_at dksX6_asksAll_2 20 rfl rfl)
theorem dX6_asksAll_67 : decode cX6_asksAll 67 = .ok (.i2l, 1) := dk_133 (dk_at dksX6_asksAll_2 21 rfl rfl)
theorem dX6_asksAll_68 : decode cX6_asksAll 68 = .ok (.lastore, 1) := dk_80 (dk_at dksX6_asksAll_2 22 rfl rfl)
theorem dX6_asksAll_69 : decode cX6_asksAll 69 = .ok (.aload_n 0, 1) := dk_42 (dk_at dksX6_asksAll_2 23 rfl rfl)
theorem dX6_asksAll_70 : decode cX6_asksAll 70 = .ok (.getfield 3, 3) := dk_180 0 3 (dk_at dksX6_asksAll_3 0 rfl rfl)
theorem dX6_asksAll_73 : decode cX6_asksAll 73 = .ok (.getfield 125, 3) := dk_180 0 125 (dk_at dksX6_asksAll_3 3 rfl rfl)
theorem dX6_asksAll_76 : decode cX6_asksAll 76 = .ok (.getfield 129, 3) := dk_180 0 129 (dk_at dksX6_asksAll_3 6 rfl rfl)
theorem dX6_asksAll_79 : decode cX6_asksAll 79 = .ok (.bipush 8, 2) := dk_16 8 (dk_at dksX6_asksAll_3 9 rfl rfl)
theorem dX6_asksAll_81 : decode cX6_asksAll 81 = .ok (.aload_n 0, 1) := dk_42 (dk_at dksX6_asksAll_3 11 rfl rfl)
theorem dX6_asksAll_82 : decode cX6_asksAll 82 = .ok (.getfield 19, 3) := dk_180 0 19 (dk_at dksX6_asksAll_3 12 rfl rfl)
theorem dX6_asksAll_85 : decode cX6_asksAll 85 = .ok (.iload_n 1, 1) := dk_27 (dk_at dksX6_asksAll_3 15 rfl rfl)
theorem dX6_asksAll_86 : decode cX6_asksAll 86 = .ok (.iaload, 1) := dk_46 (dk_at dksX6_asksAll_3 16 rfl rfl)
theorem dX6_asksAll_87 : decode cX6_asksAll 87 = .ok (.i2l, 1) := dk_133 (dk_at dksX6_asksAll_3 17 rfl rfl)
theorem dX6_asksAll_88 : decode cX6_asksAll 88 = .ok (.lastore, 1) := dk_80 (dk_at dksX6_asksAll_3 18 rfl rfl)
theorem dX6_asksAll_89 : decode cX6_asksAll 89 = .ok (.aload_n 0, 1) := dk_42 (dk_at dksX6_asksAll_3 19 rfl rfl)
theorem dX6_asksAll_90 : decode cX6_asksAll 90 = .ok (.getfield 3, 3) := dk_180 0 3 (dk_at dksX6_asksAll_3 20 rfl rfl)
theorem dX6_asksAll_93 : decode cX6_asksAll 93 = .ok (.getfield 125, 3) := dk_180 0 125 (dk_at dksX6_asksAll_4 0 rfl rfl)
theorem dX6_asksAll_96 : decode cX6_asksAll 96 = .ok (.getfield 129, 3) := dk_180 0 129 (dk_at dksX6_asksAll_4 3 rfl rfl)
theorem dX6_asksAll_99 : decode cX6_asksAll 99 = .ok (.bipush 9, 2) := dk_16 9 (dk_at dksX6_asksAll_4 6 rfl rfl)
theorem dX6_asksAll_101 : decode cX6_asksAll 101 = .ok (.aload_n 0, 1) := dk_42 (dk_at dksX6_asksAll_4 8 rfl rfl)
theorem dX6_asksAll_102 : decode cX6_asksAll 102 = .ok (.getfield 15, 3) := dk_180 0 15 (dk_at dksX6_asksAll_4 9 rfl rfl)
theorem dX6_asksAll_105 : decode cX6_asksAll 105 = .ok (.iconst 4, 1) := dk_7 (dk_at dksX6_asksAll_4 12 rfl rfl)
theorem dX6_asksAll_106 : decode cX6_asksAll 106 = .ok (.iload_n 1, 1) := dk_27 (dk_at dksX6_asksAll_4 13 rfl rfl)
theorem dX6_asksAll_107 : decode cX6_asksAll 107 = .ok (.imul, 1) := dk_104 (dk_at dksX6_asksAll_4 14 rfl rfl)
theorem dX6_asksAll_108 : decode cX6_asksAll 108 = .ok (.iconst 2, 1) := dk_5 (dk_at dksX6_asksAll_4 15 rfl rfl)
theorem dX6_asksAll_109 : decode cX6_asksAll 109 = .ok (.iadd, 1) := dk_96 (dk_at dksX6_asksAll_4 16 rfl rfl)
theorem dX6_asksAll_110 : decode cX6_asksAll 110 = .ok (.iaload, 1) := dk_46 (dk_at dksX6_asksAll_4 17 rfl rfl)
theorem dX6_asksAll_111 : decode cX6_asksAll 111 = .ok (.i2l, 1) := dk_133 (dk_at dksX6_asksAll_4 18 rfl rfl)
theorem dX6_asksAll_112 : decode cX6_asksAll 112 = .ok (.lastore, 1) := dk_80 (dk_at dksX6_asksAll_4 19 rfl rfl)
theorem dX6_asksAll_113 : decode cX6_asksAll 113 = .ok (.aload_n 0, 1) := dk_42 (dk_at dksX6_asksAll_4 20 rfl rfl)
theorem dX6_asksAll_114 : decode cX6_asksAll 114 = .ok (.getfield 3, 3) := dk_180 0 3 (dk_at dksX6_asksAll_4 21 rfl rfl)
theorem dX6_asksAll_117 : decode cX6_asksAll 117 = .ok (.getfield 125, 3) := dk_180 0 125 (dk_at dksX6_asksAll_5 0 rfl rfl)
theorem dX6_asksAll_120 : decode cX6_asksAll 120 = .ok (.getfield 129, 3) := dk_180 0 129 (dk_at dksX6_asksAll_5 3 rfl rfl)
theorem dX6_asksAll_123 : decode cX6_asksAll 123 = .ok (.bipush 10, 2) := dk_16 10 (dk_at dksX6_asksAll_5 6 rfl rfl)
theorem dX6_asksAll_125 : decode cX6_asksAll 125 = .ok (.aload_n 0, 1) := dk_42 (dk_at dksX6_asksAll_5 8 rfl rfl)
theorem dX6_asksAll_126 : decode cX6_asksAll 126 = .ok (.iload_n 1, 1) := dk_27 (dk_at dksX6_asksAll_5 9 rfl rfl)
theorem dX6_asksAll_127 : decode cX6_asksAll 127 = .ok (.invokevirtual 135, 3) := dk_182 0 135 (dk_at dksX6_asksAll_5 10 rfl rfl)
theorem dX6_asksAll_130 : decode cX6_asksAll 130 = .ok (.i2l, 1) := dk_133 (dk_at dksX6_asksAll_5 13 rfl rfl)
theorem dX6_asksAll_131 : decode cX6_asksAll 131 = .ok (.lastore, 1) := dk_80 (dk_at dksX6_asksAll_5 14 rfl rfl)
theorem dX6_asksAll_132 : decode cX6_asksAll 132 = .ok (.aload_n 0, 1) := dk_42 (dk_at dksX6_asksAll_5 15 rfl rfl)
theorem dX6_asksAll_133 : decode cX6_asksAll 133 = .ok (.getfield 3, 3) := dk_180 0 3 (dk_at dksX6_asksAll_5 16 rfl rfl)
theorem dX6_asksAll_136 : decode cX6_asksAll 136 = .ok (.getfield 125, 3) := dk_180 0 125 (dk_at dksX6_asksAll_5 19 rfl rfl)
theorem dX6_asksAll_139 : decode cX6_asksAll 139 = .ok (.getfield 139, 3) := dk_180 0 139 (dk_at dksX6_asksAll_6 0 rfl rfl)
theorem dX6_asksAll_142 : decode cX6_asksAll 142 = .ok (.iconst 4, 1) := dk_7 (dk_at dksX6_asksAll_6 3 rfl rfl)
theorem dX6_asksAll_143 : decode cX6_asksAll 143 = .ok (.aload_n 0, 1) := dk_42 (dk_at dksX6_asksAll_6 4 rfl rfl)
theorem dX6_asksAll_144 : decode cX6_asksAll 144 = .ok (.getfield 29, 3) := dk_180 0 29 (dk_at dksX6_asksAll_6 5 rfl rfl)
theorem dX6_asksAll_147 : decode cX6_asksAll 147 = .ok (.iload_n 1, 1) := dk_27 (dk_at dksX6_asksAll_6 8 rfl rfl)
theorem dX6_asksAll_148 : decode cX6_asksAll 148 = .ok (.baload, 1) := dk_51 (dk_at dksX6_asksAll_6 9 rfl rfl)
theorem dX6_asksAll_149 : decode cX6_asksAll 149 = .ok (.bastore, 1) := dk_84 (dk_at dksX6_asksAll_6 10 rfl rfl)
theorem dX6_asksAll_150 : decode cX6_asksAll 150 = .ok (.iconst 0, 1) := dk_3 (dk_at dksX6_asksAll_6 11 rfl rfl)
theorem dX6_asksAll_151 : decode cX6_asksAll 151 = .ok (.istore_n 2, 1) := dk_61 (dk_at dksX6_asksAll_6 12 rfl rfl)
theorem dX6_asksAll_152 : decode cX6_asksAll 152 = .ok (.iload_n 2, 1) := dk_28 (dk_at dksX6_asksAll_6 13 rfl rfl)
theorem dX6_asksAll_153 : decode cX6_asksAll 153 = .ok (.bipush 10, 2) := dk_16 10 (dk_at dksX6_asksAll_6 14 rfl rfl)
theorem dX6_asksAll_155 : decode cX6_asksAll 155 = .ok (.if_icmp .ge 45, 3) := dk_162 0 45 (dk_at dksX6_asksAll_6 16 rfl rfl)
theorem dX6_asksAll_158 : decode cX6_asksAll 158 = .ok (.aload_n 0, 1) := dk_42 (dk_at dksX6_asksAll_6 19 rfl rfl)
theorem dX6_asksAll_159 : decode cX6_asksAll 159 = .ok (.getfield 32, 3) := dk_180 0 32 (dk_at dksX6_asksAll_6 20 rfl rfl)
theorem dX6_asksAll_162 : decode cX6_asksAll 162 = .ok (.bipush 10, 2) := dk_16 10 (dk_at dksX6_asksAll_7 0 rfl rfl)
theorem dX6_asksAll_164 : decode cX6_asksAll 164 = .ok (.iload_n 1, 1) := dk_27 (dk_at dksX6_asksAll_7 2 rfl rfl)
theorem dX6_asksAll_165 : decode cX6_asksAll 165 = .ok (.imul, 1) := dk_104 (dk_at dksX6_asksAll_7 3 rfl rfl)
theorem dX6_asksAll_166 : decode cX6_asksAll 166 = .ok (.iload_n 2, 1) := dk_28 (dk_at dksX6_asksAll_7 4 rfl rfl)
theorem dX6_asksAll_167 : decode cX6_asksAll 167 = .ok (.iadd, 1) := dk_96 (dk_at dksX6_asksAll_7 5 rfl rfl)
theorem dX6_asksAll_168 : decode cX6_asksAll 168 = .ok (.aload_n 0, 1) := dk_42 (dk_at dksX6_asksAll_7 6 rfl rfl)
theorem dX6_asksAll_169 : decode cX6_asksAll 169 = .ok (.getfield 3, 3) := dk_180 0 3 (dk_at dksX6_asksAll_7 7 rfl rfl)
theorem dX6_asksAll_172 : decode cX6_asksAll 172 = .ok (.iconst 3, 1) := dk_6 (dk_at dksX6_asksAll_7 10 rfl rfl)
theorem dX6_asksAll_173 : decode cX6_asksAll 173 = .ok (.iload_n 2, 1) := dk_28 (dk_at dksX6_asksAll_7 11 rfl rfl)
theorem dX6_asksAll_174 : decode cX6_asksAll 174 = .ok (.aload_n 0, 1) := dk_42 (dk_at dksX6_asksAll_7 12 rfl rfl)
theorem dX6_asksAll_175 : decode cX6_asksAll 175 = .ok (.getfield 35, 3) := dk_180 0 35 (dk_at dksX6_asksAll_7 13 rfl rfl)
theorem dX6_asksAll_178 : decode cX6_asksAll 178 = .ok (.invokevirtual 142, 3) := dk_182 0 142 (dk_at dksX6_asksAll_7 16 rfl rfl)
theorem dX6_asksAll_181 : decode cX6_asksAll 181 = .ok (.ldc2_w 146, 3) := dk_20 0 146 (dk_at dksX6_asksAll_7 19 rfl rfl)
theorem dX6_asksAll_184 : decode cX6_asksAll 184 = .ok (.lcmp, 1) := dk_148 (dk_at dksX6_asksAll_7 22 rfl rfl)
theorem dX6_asksAll_185 : decode cX6_asksAll 185 = .ok (.ifCond .eq 7, 3) := dk_153 0 7 (dk_at dksX6_asksAll_8 0 rfl rfl)
theorem dX6_asksAll_188 : decode cX6_asksAll 188 = .ok (.iconst 1, 1) := dk_4 (dk_at dksX6_asksAll_8 3 rfl rfl)
theorem dX6_asksAll_189 : decode cX6_asksAll 189 = .ok (.goto 4, 3) := dk_167 0 4 (dk_at dksX6_asksAll_8 4 rfl rfl)
theorem dX6_asksAll_192 : decode cX6_asksAll 192 = .ok (.iconst 0, 1) := dk_3 (dk_at dksX6_asksAll_8 7 rfl rfl)
theorem dX6_asksAll_193 : decode cX6_asksAll 193 = .ok (.bastore, 1) := dk_84 (dk_at dksX6_asksAll_8 8 rfl rfl)
theorem dX6_asksAll_194 : decode cX6_asksAll 194 = .ok (.iinc 2 1, 3) := dk_132 2 1 (dk_at dksX6_asksAll_8 9 rfl rfl)
theorem dX6_asksAll_197 : decode cX6_asksAll 197 = .ok (.goto (-45), 3) := dk_167 255 211 (dk_at dksX6_asksAll_8 12 rfl rfl)
theorem dX6_asksAll_200 : decode cX6_asksAll 200 = .ok (.aload_n 0, 1) := dk_42 (dk_at dksX6_asksAll_8 15 rfl rfl)
theorem dX6_asksAll_201 : decode cX6_asksAll 201 = .ok (.getfield 25, 3) := dk_180 0 25 (dk_at dksX6_asksAll_8 16 rfl rfl)
theorem dX6_asksAll_204 : decode cX6_asksAll 204 = .ok (.iload_n 1, 1) := dk_27 (dk_at dksX6_asksAll_8 19 rfl rfl)
theorem dX6_asksAll_205 : decode cX6_asksAll 205 = .ok (.aload_n 0, 1) := dk_42 (dk_at dksX6_asksAll_8 20 rfl rfl)
theorem dX6_asksAll_206 : decode cX6_asksAll 206 = .ok (.getfield 3, 3) := dk_180 0 3 (dk_at dksX6_asksAll_8 21 rfl rfl)
theorem dX6_asksAll_209 : decode cX6_asksAll 209 = .ok (.iconst 4, 1) := dk_7 (dk_at dksX6_asksAll_9 0 rfl rfl)
theorem dX6_asksAll_210 : decode cX6_asksAll 210 = .ok (.iconst 0, 1) := dk_3 (dk_at dksX6_asksAll_9 1 rfl rfl)
theorem dX6_asksAll_211 : decode cX6_asksAll 211 = .ok (.aload_n 0, 1) := dk_42 (dk_at dksX6_asksAll_9 2 rfl rfl)
theorem dX6_asksAll_212 : decode cX6_asksAll 212 = .ok (.getfield 35, 3) := dk_180 0 35 (dk_at dksX6_asksAll_9 3 rfl rfl)
theorem dX6_asksAll_215 : decode cX6_asksAll 215 = .ok (.invokevirtual 142, 3) := dk_182 0 142 (dk_at dksX6_asksAll_9 6 rfl rfl)
theorem dX6_asksAll_218 : decode cX6_asksAll 218 = .ok (.ldc2_w 146, 3) := dk_20 0 146 (dk_at dksX6_asksAll_9 9 rfl rfl)
theorem dX6_asksAll_221 : decode cX6_asksAll 221 = .ok (.lcmp, 1) := dk_148 (dk_at dksX6_asksAll_9 12 rfl rfl)
theorem dX6_asksAll_222 : decode cX6_asksAll 222 = .ok (.ifCond .eq 7, 3) := dk_153 0 7 (dk_at dksX6_asksAll_9 13 rfl rfl)
theorem dX6_asksAll_225 : decode cX6_asksAll 225 = .ok (.iconst 1, 1) := dk_4 (dk_at dksX6_asksAll_9 16 rfl rfl)
theorem dX6_asksAll_226 : decode cX6_asksAll 226 = .ok (.goto 4, 3) := dk_167 0 4 (dk_at dksX6_asksAll_9 17 rfl rfl)
theorem dX6_asksAll_229 : decode cX6_asksAll 229 = .ok (.iconst 0, 1) := dk_3 (dk_at dksX6_asksAll_9 20 rfl rfl)
theorem dX6_asksAll_230 : decode cX6_asksAll 230 = .ok (.bastore, 1) := dk_84 (dk_at dksX6_asksAll_9 21 rfl rfl)
theorem dX6_asksAll_231 : decode cX6_asksAll 231 = .ok (.return_, 1) := dk_177 (dk_at dksX6_asksAll_9 22 rfl rfl)
def dkwX6_lost_1 : List UInt8 := [5, 96, 46, 100, 172]
abbrev dktX6_lost_1 : List UInt8 := dkwX6_lost_1 ++ []
def dkwX6_lost_0 : List UInt8 := [42, 180, 0, 15, 7, 27, 104, 4, 96, 46, 42, 180, 0, 19, 27, 46, 100, 42, 180, 0, 15, 7, 27, 104]
abbrev dktX6_lost_0 : List UInt8 := dkwX6_lost_0 ++ dktX6_lost_1
theorem dksX6_lost_0 : cX6_lost.data.toList.drop 0 = dktX6_lost_0 := by decide +kernel
theorem dksX6_lost_1 : cX6_lost.data.toList.drop 24 = dktX6_lost_1 := dk_seg dksX6_lost_0 24 rfl rfl
theorem dX6_lost_0 : decode cX6_lost 0 = .ok (.aload_n 0, 1) := dk_42 (dk_at dksX6_lost_0 0 rfl rfl)
theorem dX6_lost_1 : decode cX6_lost 1 = .ok (.getfield 15, 3) := dk_180 0 15 (dk_at dksX6_lost_0 1 rfl rfl)
theorem dX6_lost_4 : decode cX6_lost 4 = .ok (.iconst 4, 1) := dk_7 (dk_at dksX6_lost_0 4 rfl rfl)
theorem dX6_lost_5 : decode cX6_lost 5 = .ok (.iload_n 1, 1) := dk_27 (dk_at dksX6_lost_0 5 rfl rfl)
theorem dX6_lost_6 : decode cX6_lost 6 = .ok (.imul, 1) := dk_104 (dk_at dksX6_lost_0 6 rfl rfl)
theorem dX6_lost_7 : decode cX6_lost 7 = .ok (.iconst 1, 1) := dk_4 (dk_at dksX6_lost_0 7 rfl rfl)
theorem dX6_lost_8 : decode cX6_lost 8 = .ok (.iadd, 1) := dk_96 (dk_at dksX6_lost_0 8 rfl rfl)
theorem dX6_lost_9 : decode cX6_lost 9 = .ok (.iaload, 1) := dk_46 (dk_at dksX6_lost_0 9 rfl rfl)
theorem dX6_lost_10 : decode cX6_lost 10 = .ok (.aload_n 0, 1) := dk_42 (dk_at dksX6_lost_0 10 rfl rfl)
theorem dX6_lost_11 : decode cX6_lost 11 = .ok (.getfield 19, 3) := dk_180 0 19 (dk_at dksX6_lost_0 11 rfl rfl)
theorem dX6_lost_14 : decode cX6_lost 14 = .ok (.iload_n 1, 1) := dk_27 (dk_at dksX6_lost_0 14 rfl rfl)
theorem dX6_lost_15 : decode cX6_lost 15 = .ok (.iaload, 1) := dk_46 (dk_at dksX6_lost_0 15 rfl rfl)
theorem dX6_lost_16 : decode cX6_lost 16 = .ok (.isub, 1) := dk_100 (dk_at dksX6_lost_0 16 rfl rfl)
theorem dX6_lost_17 : decode cX6_lost 17 = .ok (.aload_n 0, 1) := dk_42 (dk_at dksX6_lost_0 17 rfl rfl)
theorem dX6_lost_18 : decode cX6_lost 18 = .ok (.getfield 15, 3) := dk_180 0 15 (dk_at dksX6_lost_0 18 rfl rfl)
theorem dX6_lost_21 : decode cX6_lost 21 = .ok (.iconst 4, 1) := dk_7 (dk_at dksX6_lost_0 21 rfl rfl)
theorem dX6_lost_22 : decode cX6_lost 22 = .ok (.iload_n 1, 1) := dk_27 (dk_at dksX6_lost_0 22 rfl rfl)
theorem dX6_lost_23 : decode cX6_lost 23 = .ok (.imul, 1) := dk_104 (dk_at dksX6_lost_0 23 rfl rfl)
theorem dX6_lost_24 : decode cX6_lost 24 = .ok (.iconst 2, 1) := dk_5 (dk_at dksX6_lost_1 0 rfl rfl)
theorem dX6_lost_25 : decode cX6_lost 25 = .ok (.iadd, 1) := dk_96 (dk_at dksX6_lost_1 1 rfl rfl)
theorem dX6_lost_26 : decode cX6_lost 26 = .ok (.iaload, 1) := dk_46 (dk_at dksX6_lost_1 2 rfl rfl)
theorem dX6_lost_27 : decode cX6_lost 27 = .ok (.isub, 1) := dk_100 (dk_at dksX6_lost_1 3 rfl rfl)
theorem dX6_lost_28 : decode cX6_lost 28 = .ok (.ireturn, 1) := dk_172 (dk_at dksX6_lost_1 4 rfl rfl)
def dkwX6_validOf_1 : List UInt8 := [132, 3, 1, 167, 255, 233, 28, 172]
abbrev dktX6_validOf_1 : List UInt8 := dkwX6_validOf_1 ++ []
def dkwX6_validOf_0 : List UInt8 := [3, 61, 3, 62, 29, 16, 8, 162, 0, 23, 28, 42, 180, 0, 22, 16, 8, 27, 104, 29, 96, 46, 96, 61]
abbrev dktX6_validOf_0 : List UInt8 := dkwX6_validOf_0 ++ dktX6_validOf_1
theorem dksX6_validOf_0 : cX6_validOf.data.toList.drop 0 = dktX6_validOf_0 := by decide +kernel
theorem dksX6_validOf_1 : cX6_validOf.data.toList.drop 24 = dktX6_validOf_1 := dk_seg dksX6_validOf_0 24 rfl rfl
theorem dX6_validOf_0 : decode cX6_validOf 0 = .ok (.iconst 0, 1) := dk_3 (dk_at dksX6_validOf_0 0 rfl rfl)
theorem dX6_validOf_1 : decode cX6_validOf 1 = .ok (.istore_n 2, 1) := dk_61 (dk_at dksX6_validOf_0 1 rfl rfl)
theorem dX6_validOf_2 : decode cX6_validOf 2 = .ok (.iconst 0, 1) := dk_3 (dk_at dksX6_validOf_0 2 rfl rfl)
theorem dX6_validOf_3 : decode cX6_validOf 3 = .ok (.istore_n 3, 1) := dk_62 (dk_at dksX6_validOf_0 3 rfl rfl)
theorem dX6_validOf_4 : decode cX6_validOf 4 = .ok (.iload_n 3, 1) := dk_29 (dk_at dksX6_validOf_0 4 rfl rfl)
theorem dX6_validOf_5 : decode cX6_validOf 5 = .ok (.bipush 8, 2) := dk_16 8 (dk_at dksX6_validOf_0 5 rfl rfl)
theorem dX6_validOf_7 : decode cX6_validOf 7 = .ok (.if_icmp .ge 23, 3) := dk_162 0 23 (dk_at dksX6_validOf_0 7 rfl rfl)
theorem dX6_validOf_10 : decode cX6_validOf 10 = .ok (.iload_n 2, 1) := dk_28 (dk_at dksX6_validOf_0 10 rfl rfl)
theorem dX6_validOf_11 : decode cX6_validOf 11 = .ok (.aload_n 0, 1) := dk_42 (dk_at dksX6_validOf_0 11 rfl rfl)
theorem dX6_validOf_12 : decode cX6_validOf 12 = .ok (.getfield 22, 3) := dk_180 0 22 (dk_at dksX6_validOf_0 12 rfl rfl)
theorem dX6_validOf_15 : decode cX6_validOf 15 = .ok (.bipush 8, 2) := dk_16 8 (dk_at dksX6_validOf_0 15 rfl rfl)
theorem dX6_validOf_17 : decode cX6_validOf 17 = .ok (.iload_n 1, 1) := dk_27 (dk_at dksX6_validOf_0 17 rfl rfl)
theorem dX6_validOf_18 : decode cX6_validOf 18 = .ok (.imul, 1) := dk_104 (dk_at dksX6_validOf_0 18 rfl rfl)
theorem dX6_validOf_19 : decode cX6_validOf 19 = .ok (.iload_n 3, 1) := dk_29 (dk_at dksX6_validOf_0 19 rfl rfl)
theorem dX6_validOf_20 : decode cX6_validOf 20 = .ok (.iadd, 1) := dk_96 (dk_at dksX6_validOf_0 20 rfl rfl)
theorem dX6_validOf_21 : decode cX6_validOf 21 = .ok (.iaload, 1) := dk_46 (dk_at dksX6_validOf_0 21 rfl rfl)
theorem dX6_validOf_22 : decode cX6_validOf 22 = .ok (.iadd, 1) := dk_96 (dk_at dksX6_validOf_0 22 rfl rfl)
theorem dX6_validOf_23 : decode cX6_validOf 23 = .ok (.istore_n 2, 1) := dk_61 (dk_at dksX6_validOf_0 23 rfl rfl)
theorem dX6_validOf_24 : decode cX6_validOf 24 = .ok (.iinc 3 1, 3) := dk_132 3 1 (dk_at dksX6_validOf_1 0 rfl rfl)
theorem dX6_validOf_27 : decode cX6_validOf 27 = .ok (.goto (-23), 3) := dk_167 255 233 (dk_at dksX6_validOf_1 3 rfl rfl)
theorem dX6_validOf_30 : decode cX6_validOf 30 = .ok (.iload_n 2, 1) := dk_28 (dk_at dksX6_validOf_1 6 rfl rfl)
theorem dX6_validOf_31 : decode cX6_validOf 31 = .ok (.ireturn, 1) := dk_172 (dk_at dksX6_validOf_1 7 rfl rfl)
def dkwX8_init_1 : List UInt8 := [181, 0, 19, 42, 21, 5, 181, 0, 22, 177]
abbrev dktX8_init_1 : List UInt8 := dkwX8_init_1 ++ []
def dkwX8_init_0 : List UInt8 := [42, 183, 0, 1, 42, 27, 181, 0, 7, 42, 28, 181, 0, 13, 42, 29, 181, 0, 16, 42, 21, 4]
abbrev dktX8_init_0 : List UInt8 := dkwX8_init_0 ++ dktX8_init_1
theorem dksX8_init_0 : cX8_init.data.toList.drop 0 = dktX8_init_0 := by decide +kernel
theorem dksX8_init_1 : cX8_init.data.toList.drop 22 = dktX8_init_1 := dk_seg dksX8_init_0 22 rfl rfl
theorem dX8_init_0 : decode cX8_init 0 = .ok (.aload_n 0, 1) := dk_42 (dk_at dksX8_init_0 0 rfl rfl)
theorem dX8_init_1 : decode cX8_init 1 = .ok (.invokespecial 1, 3) := dk_183 0 1 (dk_at dksX8_init_0 1 rfl rfl)
theorem dX8_init_4 : decode cX8_init 4 = .ok (.aload_n 0, 1) := dk_42 (dk_at dksX8_init_0 4 rfl rfl)
theorem dX8_init_5 : decode cX8_init 5 = .ok (.iload_n 1, 1) := dk_27 (dk_at dksX8_init_0 5 rfl rfl)
theorem dX8_init_6 : decode cX8_init 6 = .ok (.putfield 7, 3) := dk_181 0 7 (dk_at dksX8_init_0 6 rfl rfl)
theorem dX8_init_9 : decode cX8_init 9 = .ok (.aload_n 0, 1) := dk_42 (dk_at dksX8_init_0 9 rfl rfl)
theorem dX8_init_10 : decode cX8_init 10 = .ok (.iload_n 2, 1) := dk_28 (dk_at dksX8_init_0 10 rfl rfl)
theorem dX8_init_11 : decode cX8_init 11 = .ok (.putfield 13, 3) := dk_181 0 13 (dk_at dksX8_init_0 11 rfl rfl)
theorem dX8_init_14 : decode cX8_init 14 = .ok (.aload_n 0, 1) := dk_42 (dk_at dksX8_init_0 14 rfl rfl)
theorem dX8_init_15 : decode cX8_init 15 = .ok (.iload_n 3, 1) := dk_29 (dk_at dksX8_init_0 15 rfl rfl)
theorem dX8_init_16 : decode cX8_init 16 = .ok (.putfield 16, 3) := dk_181 0 16 (dk_at dksX8_init_0 16 rfl rfl)
theorem dX8_init_19 : decode cX8_init 19 = .ok (.aload_n 0, 1) := dk_42 (dk_at dksX8_init_0 19 rfl rfl)
theorem dX8_init_20 : decode cX8_init 20 = .ok (.iload 4, 2) := dk_21 4 (dk_at dksX8_init_0 20 rfl rfl)
theorem dX8_init_22 : decode cX8_init 22 = .ok (.putfield 19, 3) := dk_181 0 19 (dk_at dksX8_init_1 0 rfl rfl)
theorem dX8_init_25 : decode cX8_init 25 = .ok (.aload_n 0, 1) := dk_42 (dk_at dksX8_init_1 3 rfl rfl)
theorem dX8_init_26 : decode cX8_init 26 = .ok (.iload 5, 2) := dk_21 5 (dk_at dksX8_init_1 4 rfl rfl)
theorem dX8_init_28 : decode cX8_init 28 = .ok (.putfield 22, 3) := dk_181 0 22 (dk_at dksX8_init_1 6 rfl rfl)
theorem dX8_init_31 : decode cX8_init 31 = .ok (.return_, 1) := dk_177 (dk_at dksX8_init_1 9 rfl rfl)
theorem dX8_kind_0 : decode cX8_kind 0 = .ok (.iconst 0, 1) := by decide +kernel
theorem dX8_kind_1 : decode cX8_kind 1 = .ok (.ireturn, 1) := by decide +kernel
def dkwJ5_newLength_1 : List UInt8 := [184, 0, 201, 172]
abbrev dktJ5_newLength_1 : List UInt8 := dkwJ5_newLength_1 ++ []
def dkwJ5_newLength_0 : List UInt8 := [26, 27, 28, 184, 0, 194, 96, 62, 3, 29, 162, 0, 11, 29, 18, 200, 163, 0, 5, 29, 172, 26, 27]
abbrev dktJ5_newLength_0 : List UInt8 := dkwJ5_newLength_0 ++ dktJ5_newLength_1
theorem dksJ5_newLength_0 : cJ5_newLength.data.toList.drop 0 = dktJ5_newLength_0 := by decide +kernel
theorem dksJ5_newLength_1 : cJ5_newLength.data.toList.drop 23 = dktJ5_newLength_1 := dk_seg dksJ5_newLength_0 23 rfl rfl
theorem dJ5_newLength_0 : decode cJ5_newLength 0 = .ok (.iload_n 0, 1) := dk_26 (dk_at dksJ5_newLength_0 0 rfl rfl)
theorem dJ5_newLength_1 : decode cJ5_newLength 1 = .ok (.iload_n 1, 1) := dk_27 (dk_at dksJ5_newLength_0 1 rfl rfl)
theorem dJ5_newLength_2 : decode cJ5_newLength 2 = .ok (.iload_n 2, 1) := dk_28 (dk_at dksJ5_newLength_0 2 rfl rfl)
theorem dJ5_newLength_3 : decode cJ5_newLength 3 = .ok (.invokestatic 194, 3) := dk_184 0 194 (dk_at dksJ5_newLength_0 3 rfl rfl)
theorem dJ5_newLength_6 : decode cJ5_newLength 6 = .ok (.iadd, 1) := dk_96 (dk_at dksJ5_newLength_0 6 rfl rfl)
theorem dJ5_newLength_7 : decode cJ5_newLength 7 = .ok (.istore_n 3, 1) := dk_62 (dk_at dksJ5_newLength_0 7 rfl rfl)
theorem dJ5_newLength_8 : decode cJ5_newLength 8 = .ok (.iconst 0, 1) := dk_3 (dk_at dksJ5_newLength_0 8 rfl rfl)
theorem dJ5_newLength_9 : decode cJ5_newLength 9 = .ok (.iload_n 3, 1) := dk_29 (dk_at dksJ5_newLength_0 9 rfl rfl)
theorem dJ5_newLength_10 : decode cJ5_newLength 10 = .ok (.if_icmp .ge 11, 3) := dk_162 0 11 (dk_at dksJ5_newLength_0 10 rfl rfl)
theorem dJ5_newLength_13 : decode cJ5_newLength 13 = .ok (.iload_n 3, 1) := dk_29 (dk_at dksJ5_newLength_0 13 rfl rfl)
theorem dJ5_newLength_14 : decode cJ5_newLength 14 = .ok (.ldc 200, 2) := dk_18 200 (dk_at dksJ5_newLength_0 14 rfl rfl)
theorem dJ5_newLength_16 : decode cJ5_newLength 16 = .ok (.if_icmp .gt 5, 3) := dk_163 0 5 (dk_at dksJ5_newLength_0 16 rfl rfl)
theorem dJ5_newLength_19 : decode cJ5_newLength 19 = .ok (.iload_n 3, 1) := dk_29 (dk_at dksJ5_newLength_0 19 rfl rfl)
theorem dJ5_newLength_20 : decode cJ5_newLength 20 = .ok (.ireturn, 1) := dk_172 (dk_at dksJ5_newLength_0 20 rfl rfl)
theorem dJ5_newLength_21 : decode cJ5_newLength 21 = .ok (.iload_n 0, 1) := dk_26 (dk_at dksJ5_newLength_0 21 rfl rfl)
theorem dJ5_newLength_22 : decode cJ5_newLength 22 = .ok (.iload_n 1, 1) := dk_27 (dk_at dksJ5_newLength_0 22 rfl rfl)
theorem dJ5_newLength_23 : decode cJ5_newLength 23 = .ok (.invokestatic 201, 3) := dk_184 0 201 (dk_at dksJ5_newLength_1 0 rfl rfl)
theorem dJ5_newLength_26 : decode cJ5_newLength 26 = .ok (.ireturn, 1) := dk_172 (dk_at dksJ5_newLength_1 3 rfl rfl)
def dkwJ5_hugeLength_2 : List UInt8 := [191, 28, 18, 200, 163, 0, 6, 18, 200, 172, 28, 172]
abbrev dktJ5_hugeLength_2 : List UInt8 := dkwJ5_hugeLength_2 ++ []
def dkwJ5_hugeLength_1 : List UInt8 := [26, 182, 0, 98, 18, 208, 182, 0, 94, 27, 182, 0, 98, 18, 210, 182, 0, 94, 182, 0, 101, 183, 0, 212]
abbrev dktJ5_hugeLength_1 : List UInt8 := dkwJ5_hugeLength_1 ++ dktJ5_hugeLength_2
def dkwJ5_hugeLength_0 : List UInt8 := [26, 27, 96, 61, 28, 156, 0, 44, 187, 0, 204, 89, 187, 0, 89, 89, 183, 0, 91, 18, 206, 182, 0, 94]
abbrev dktJ5_hugeLength_0 : List UInt8 := dkwJ5_hugeLength_0 ++ dktJ5_hugeLength_1
theorem dksJ5_hugeLength_0 : cJ5_hugeLength.data.toList.drop 0 = dktJ5_hugeLength_0 := by decide +kernel
theorem dksJ5_hugeLength_1 : cJ5_hugeLength.data.toList.drop 24 = dktJ5_hugeLength_1 := dk_seg dksJ5_hugeLength_0 24 rfl rfl
theorem dksJ5_hugeLength_2 : cJ5_hugeLength.data.toList.drop 48 = dktJ5_hugeLength_2 := dk_seg dksJ5_hugeLength_1 24 rfl rfl
theorem dJ5_hugeLength_0 : decode cJ5_hugeLength 0 = .ok (.iload_n 0, 1) := dk_26 (dk_at dksJ5_hugeLength_0 0 rfl rfl)
theorem dJ5_hugeLength_1 : decode cJ5_hugeLength 1 = .ok (.iload_n 1, 1) := dk_27 (dk_at dksJ5_hugeLength_0 1 rfl rfl)
theorem dJ5_hugeLength_2 : decode cJ5_hugeLength 2 = .ok (.iadd, 1) := dk_96 (dk_at dksJ5_hugeLength_0 2 rfl rfl)
theorem dJ5_hugeLength_3 : decode cJ5_hugeLength 3 = .ok (.istore_n 2, 1) := dk_61 (dk_at dksJ5_hugeLength_0 3 rfl rfl)
theorem dJ5_hugeLength_4 : decode cJ5_hugeLength 4 = .ok (.iload_n 2, 1) := dk_28 (dk_at dksJ5_hugeLength_0 4 rfl rfl)
theorem dJ5_hugeLength_5 : decode cJ5_hugeLength 5 = .ok (.ifCond .ge 44, 3) := dk_156 0 44 (dk_at dksJ5_hugeLength_0 5 rfl rfl)
theorem dJ5_hugeLength_8 : decode cJ5_hugeLength 8 = .ok (.new 204, 3) := dk_187 0 204 (dk_at dksJ5_hugeLength_0 8 rfl rfl)
theorem dJ5_hugeLength_11 : decode cJ5_hugeLength 11 = .ok (.dup, 1) := dk_89 (dk_at dksJ5_hugeLength_0 11 rfl rfl)
theorem dJ5_hugeLength_12 : decode cJ5_hugeLength 12 = .ok (.new 89, 3) := dk_187 0 89 (dk_at dksJ5_hugeLength_0 12 rfl rfl)
theorem dJ5_hugeLength_15 : decode cJ5_hugeLength 15 = .ok (.dup, 1) := dk_89 (dk_at dksJ5_hugeLength_0 15 rfl rfl)
theorem dJ5_hugeLength_16 : decode cJ5_hugeLength 16 = .ok (.invokespecial 91, 3) := dk_183 0 91 (dk_at dksJ5_hugeLength_0 16 rfl rfl)
theorem dJ5_hugeLength_19 : decode cJ5_hugeLength 19 = .ok (.ldc 206, 2) := dk_18 206 (dk_at dksJ5_hugeLength_0 19 rfl rfl)
theorem dJ5_hugeLength_21 : decode cJ5_hugeLength 21 = .ok (.invokevirtual 94, 3) := dk_182 0 94 (dk_at dksJ5_hugeLength_0 21 rfl rfl)
theorem dJ5_hugeLength_24 : decode cJ5_hugeLength 24 = .ok (.iload_n 0, 1) := dk_26 (dk_at dksJ5_hugeLength_1 0 rfl rfl)
theorem dJ5_hugeLength_25 : decode cJ5_hugeLength 25 = .ok (.invokevirtual 98, 3) := dk_182 0 98 (dk_at dksJ5_hugeLength_1 1 rfl rfl)
theorem dJ5_hugeLength_28 : decode cJ5_hugeLength 28 = .ok (.ldc 208, 2) := dk_18 208 (dk_at dksJ5_hugeLength_1 4 rfl rfl)
theorem dJ5_hugeLength_30 : decode cJ5_hugeLength 30 = .ok (.invokevirtual 94, 3) := dk_182 0 94 (dk_at dksJ5_hugeLength_1 6 rfl rfl)
theorem dJ5_hugeLength_33 : decode cJ5_hugeLength 33 = .ok (.iload_n 1, 1) := dk_27 (dk_at dksJ5_hugeLength_1 9 rfl rfl)
theorem dJ5_hugeLength_34 : decode cJ5_hugeLength 34 = .ok (.invokevirtual 98, 3) := dk_182 0 98 (dk_at dksJ5_hugeLength_1 10 rfl rfl)
theorem dJ5_hugeLength_37 : decode cJ5_hugeLength 37 = .ok (.ldc 210, 2) := dk_18 210 (dk_at dksJ5_hugeLength_1 13 rfl rfl)
theorem dJ5_hugeLength_39 : decode cJ5_hugeLength 39 = .ok (.invokevirtual 94, 3) := dk_182 0 94 (dk_at dksJ5_hugeLength_1 15 rfl rfl)
theorem dJ5_hugeLength_42 : decode cJ5_hugeLength 42 = .ok (.invokevirtual 101, 3) := dk_182 0 101 (dk_at dksJ5_hugeLength_1 18 rfl rfl)
theorem dJ5_hugeLength_45 : decode cJ5_hugeLength 45 = .ok (.invokespecial 212, 3) := dk_183 0 212 (dk_at dksJ5_hugeLength_1 21 rfl rfl)
theorem dJ5_hugeLength_48 : decode cJ5_hugeLength 48 = .ok (.athrow, 1) := dk_191 (dk_at dksJ5_hugeLength_2 0 rfl rfl)
theorem dJ5_hugeLength_49 : decode cJ5_hugeLength 49 = .ok (.iload_n 2, 1) := dk_28 (dk_at dksJ5_hugeLength_2 1 rfl rfl)
theorem dJ5_hugeLength_50 : decode cJ5_hugeLength 50 = .ok (.ldc 200, 2) := dk_18 200 (dk_at dksJ5_hugeLength_2 2 rfl rfl)
theorem dJ5_hugeLength_52 : decode cJ5_hugeLength 52 = .ok (.if_icmp .gt 6, 3) := dk_163 0 6 (dk_at dksJ5_hugeLength_2 4 rfl rfl)
theorem dJ5_hugeLength_55 : decode cJ5_hugeLength 55 = .ok (.ldc 200, 2) := dk_18 200 (dk_at dksJ5_hugeLength_2 7 rfl rfl)
theorem dJ5_hugeLength_57 : decode cJ5_hugeLength 57 = .ok (.ireturn, 1) := dk_172 (dk_at dksJ5_hugeLength_2 9 rfl rfl)
theorem dJ5_hugeLength_58 : decode cJ5_hugeLength 58 = .ok (.iload_n 2, 1) := dk_28 (dk_at dksJ5_hugeLength_2 10 rfl rfl)
theorem dJ5_hugeLength_59 : decode cJ5_hugeLength 59 = .ok (.ireturn, 1) := dk_172 (dk_at dksJ5_hugeLength_2 11 rfl rfl)
def dkwJ6_min_0 : List UInt8 := [26, 27, 163, 0, 7, 26, 167, 0, 4, 27, 172]
abbrev dktJ6_min_0 : List UInt8 := dkwJ6_min_0 ++ []
theorem dksJ6_min_0 : cJ6_min.data.toList.drop 0 = dktJ6_min_0 := by decide +kernel
theorem dJ6_min_0 : decode cJ6_min 0 = .ok (.iload_n 0, 1) := dk_26 (dk_at dksJ6_min_0 0 rfl rfl)
theorem dJ6_min_1 : decode cJ6_min 1 = .ok (.iload_n 1, 1) := dk_27 (dk_at dksJ6_min_0 1 rfl rfl)
theorem dJ6_min_2 : decode cJ6_min 2 = .ok (.if_icmp .gt 7, 3) := dk_163 0 7 (dk_at dksJ6_min_0 2 rfl rfl)
theorem dJ6_min_5 : decode cJ6_min 5 = .ok (.iload_n 0, 1) := dk_26 (dk_at dksJ6_min_0 5 rfl rfl)
theorem dJ6_min_6 : decode cJ6_min 6 = .ok (.goto 4, 3) := dk_167 0 4 (dk_at dksJ6_min_0 6 rfl rfl)
theorem dJ6_min_9 : decode cJ6_min 9 = .ok (.iload_n 1, 1) := dk_27 (dk_at dksJ6_min_0 9 rfl rfl)
theorem dJ6_min_10 : decode cJ6_min 10 = .ok (.ireturn, 1) := dk_172 (dk_at dksJ6_min_0 10 rfl rfl)
def dkwJ6_max_0 : List UInt8 := [26, 27, 161, 0, 7, 26, 167, 0, 4, 27, 172]
abbrev dktJ6_max_0 : List UInt8 := dkwJ6_max_0 ++ []
theorem dksJ6_max_0 : cJ6_max.data.toList.drop 0 = dktJ6_max_0 := by decide +kernel
theorem dJ6_max_0 : decode cJ6_max 0 = .ok (.iload_n 0, 1) := dk_26 (dk_at dksJ6_max_0 0 rfl rfl)
theorem dJ6_max_1 : decode cJ6_max 1 = .ok (.iload_n 1, 1) := dk_27 (dk_at dksJ6_max_0 1 rfl rfl)
theorem dJ6_max_2 : decode cJ6_max 2 = .ok (.if_icmp .lt 7, 3) := dk_161 0 7 (dk_at dksJ6_max_0 2 rfl rfl)
theorem dJ6_max_5 : decode cJ6_max 5 = .ok (.iload_n 0, 1) := dk_26 (dk_at dksJ6_max_0 5 rfl rfl)
theorem dJ6_max_6 : decode cJ6_max 6 = .ok (.goto 4, 3) := dk_167 0 4 (dk_at dksJ6_max_0 6 rfl rfl)
theorem dJ6_max_9 : decode cJ6_max 9 = .ok (.iload_n 1, 1) := dk_27 (dk_at dksJ6_max_0 9 rfl rfl)
theorem dJ6_max_10 : decode cJ6_max 10 = .ok (.ireturn, 1) := dk_172 (dk_at dksJ6_max_0 10 rfl rfl)
def dkwJ6_abs_0 : List UInt8 := [26, 156, 0, 8, 26, 116, 167, 0, 4, 26, 172]
abbrev dktJ6_abs_0 : List UInt8 := dkwJ6_abs_0 ++ []
theorem dksJ6_abs_0 : cJ6_abs.data.toList.drop 0 = dktJ6_abs_0 := by decide +kernel
theorem dJ6_abs_0 : decode cJ6_abs 0 = .ok (.iload_n 0, 1) := dk_26 (dk_at dksJ6_abs_0 0 rfl rfl)
theorem dJ6_abs_1 : decode cJ6_abs 1 = .ok (.ifCond .ge 8, 3) := dk_156 0 8 (dk_at dksJ6_abs_0 1 rfl rfl)
theorem dJ6_abs_4 : decode cJ6_abs 4 = .ok (.iload_n 0, 1) := dk_26 (dk_at dksJ6_abs_0 4 rfl rfl)
theorem dJ6_abs_5 : decode cJ6_abs 5 = .ok (.ineg, 1) := dk_116 (dk_at dksJ6_abs_0 5 rfl rfl)
theorem dJ6_abs_6 : decode cJ6_abs 6 = .ok (.goto 4, 3) := dk_167 0 4 (dk_at dksJ6_abs_0 6 rfl rfl)
theorem dJ6_abs_9 : decode cJ6_abs 9 = .ok (.iload_n 0, 1) := dk_26 (dk_at dksJ6_abs_0 9 rfl rfl)
theorem dJ6_abs_10 : decode cJ6_abs 10 = .ok (.ireturn, 1) := dk_172 (dk_at dksJ6_abs_0 10 rfl rfl)
def dkwJ6_max_2_0 : List UInt8 := [30, 32, 148, 155, 0, 7, 30, 167, 0, 4, 32, 173]
abbrev dktJ6_max_2_0 : List UInt8 := dkwJ6_max_2_0 ++ []
theorem dksJ6_max_2_0 : cJ6_max_2.data.toList.drop 0 = dktJ6_max_2_0 := by decide +kernel
theorem dJ6_max_2_0 : decode cJ6_max_2 0 = .ok (.lload_n 0, 1) := dk_30 (dk_at dksJ6_max_2_0 0 rfl rfl)
theorem dJ6_max_2_1 : decode cJ6_max_2 1 = .ok (.lload_n 2, 1) := dk_32 (dk_at dksJ6_max_2_0 1 rfl rfl)
theorem dJ6_max_2_2 : decode cJ6_max_2 2 = .ok (.lcmp, 1) := dk_148 (dk_at dksJ6_max_2_0 2 rfl rfl)
theorem dJ6_max_2_3 : decode cJ6_max_2 3 = .ok (.ifCond .lt 7, 3) := dk_155 0 7 (dk_at dksJ6_max_2_0 3 rfl rfl)
theorem dJ6_max_2_6 : decode cJ6_max_2 6 = .ok (.lload_n 0, 1) := dk_30 (dk_at dksJ6_max_2_0 6 rfl rfl)
theorem dJ6_max_2_7 : decode cJ6_max_2 7 = .ok (.goto 4, 3) := dk_167 0 4 (dk_at dksJ6_max_2_0 7 rfl rfl)
theorem dJ6_max_2_10 : decode cJ6_max_2 10 = .ok (.lload_n 2, 1) := dk_32 (dk_at dksJ6_max_2_0 10 rfl rfl)
theorem dJ6_max_2_11 : decode cJ6_max_2 11 = .ok (.lreturn, 1) := dk_173 (dk_at dksJ6_max_2_0 11 rfl rfl)
def dkwJ7_copyOf_0 : List UInt8 := [42, 27, 42, 182, 0, 86, 184, 1, 44, 176]
abbrev dktJ7_copyOf_0 : List UInt8 := dkwJ7_copyOf_0 ++ []
theorem dksJ7_copyOf_0 : cJ7_copyOf.data.toList.drop 0 = dktJ7_copyOf_0 := by decide +kernel
theorem dJ7_copyOf_0 : decode cJ7_copyOf 0 = .ok (.aload_n 0, 1) := dk_42 (dk_at dksJ7_copyOf_0 0 rfl rfl)
theorem dJ7_copyOf_1 : decode cJ7_copyOf 1 = .ok (.iload_n 1, 1) := dk_27 (dk_at dksJ7_copyOf_0 1 rfl rfl)
theorem dJ7_copyOf_2 : decode cJ7_copyOf 2 = .ok (.aload_n 0, 1) := dk_42 (dk_at dksJ7_copyOf_0 2 rfl rfl)
theorem dJ7_copyOf_3 : decode cJ7_copyOf 3 = .ok (.invokevirtual 86, 3) := dk_182 0 86 (dk_at dksJ7_copyOf_0 3 rfl rfl)
theorem dJ7_copyOf_6 : decode cJ7_copyOf 6 = .ok (.invokestatic 300, 3) := dk_184 1 44 (dk_at dksJ7_copyOf_0 6 rfl rfl)
theorem dJ7_copyOf_9 : decode cJ7_copyOf 9 = .ok (.areturn, 1) := dk_176 (dk_at dksJ7_copyOf_0 9 rfl rfl)
def dkwJ7_copyOf_2_1 : List UInt8 := [78, 42, 3, 45, 3, 42, 190, 27, 184, 1, 48, 184, 0, 150, 45, 176]
abbrev dktJ7_copyOf_2_1 : List UInt8 := dkwJ7_copyOf_2_1 ++ []
def dkwJ7_copyOf_2_0 : List UInt8 := [44, 18, 110, 166, 0, 10, 27, 189, 0, 2, 167, 0, 14, 44, 182, 0, 90, 27, 184, 0, 95, 192, 0, 110]
abbrev dktJ7_copyOf_2_0 : List UInt8 := dkwJ7_copyOf_2_0 ++ dktJ7_copyOf_2_1
theorem dksJ7_copyOf_2_0 : cJ7_copyOf_2.data.toList.drop 0 = dktJ7_copyOf_2_0 := by decide +kernel
theorem dksJ7_copyOf_2_1 : cJ7_copyOf_2.data.toList.drop 24 = dktJ7_copyOf_2_1 := dk_seg dksJ7_copyOf_2_0 24 rfl rfl
theorem dJ7_copyOf_2_0 : decode cJ7_copyOf_2 0 = .ok (.aload_n 2, 1) := dk_44 (dk_at dksJ7_copyOf_2_0 0 rfl rfl)
theorem dJ7_copyOf_2_1 : decode cJ7_copyOf_2 1 = .ok (.ldc 110, 2) := dk_18 110 (dk_at dksJ7_copyOf_2_0 1 rfl rfl)
theorem dJ7_copyOf_2_3 : decode cJ7_copyOf_2 3 = .ok (.if_acmp .ne 10, 3) := dk_166 0 10 (dk_at dksJ7_copyOf_2_0 3 rfl rfl)
theorem dJ7_copyOf_2_6 : decode cJ7_copyOf_2 6 = .ok (.iload_n 1, 1) := dk_27 (dk_at dksJ7_copyOf_2_0 6 rfl rfl)
theorem dJ7_copyOf_2_7 : decode cJ7_copyOf_2 7 = .ok (.anewarray 2, 3) := dk_189 0 2 (dk_at dksJ7_copyOf_2_0 7 rfl rfl)
theorem dJ7_copyOf_2_10 : decode cJ7_copyOf_2 10 = .ok (.goto 14, 3) := dk_167 0 14 (dk_at dksJ7_copyOf_2_0 10 rfl rfl)
theorem dJ7_copyOf_2_13 : decode cJ7_copyOf_2 13 = .ok (.aload_n 2, 1) := dk_44 (dk_at dksJ7_copyOf_2_0 13 rfl rfl)
theorem dJ7_copyOf_2_14 : decode cJ7_copyOf_2 14 = .ok (.invokevirtual 90, 3) := dk_182 0 90 (dk_at dksJ7_copyOf_2_0 14 rfl rfl)
theorem dJ7_copyOf_2_17 : decode cJ7_copyOf_2 17 = .ok (.iload_n 1, 1) := dk_27 (dk_at dksJ7_copyOf_2_0 17 rfl rfl)
theorem dJ7_copyOf_2_18 : decode cJ7_copyOf_2 18 = .ok (.invokestatic 95, 3) := dk_184 0 95 (dk_at dksJ7_copyOf_2_0 18 rfl rfl)
theorem dJ7_copyOf_2_21 : decode cJ7_copyOf_2 21 = .ok (.checkcast 110, 3) := dk_192 0 110 (dk_at dksJ7_copyOf_2_0 21 rfl rfl)
theorem dJ7_copyOf_2_24 : decode cJ7_copyOf_2 24 = .ok (.astore_n 3, 1) := dk_78 (dk_at dksJ7_copyOf_2_1 0 rfl rfl)
theorem dJ7_copyOf_2_25 : decode cJ7_copyOf_2 25 = .ok (.aload_n 0, 1) := dk_42 (dk_at dksJ7_copyOf_2_1 1 rfl rfl)
theorem dJ7_copyOf_2_26 : decode cJ7_copyOf_2 26 = .ok (.iconst 0, 1) := dk_3 (dk_at dksJ7_copyOf_2_1 2 rfl rfl)
theorem dJ7_copyOf_2_27 : decode cJ7_copyOf_2 27 = .ok (.aload_n 3, 1) := dk_45 (dk_at dksJ7_copyOf_2_1 3 rfl rfl)
theorem dJ7_copyOf_2_28 : decode cJ7_copyOf_2 28 = .ok (.iconst 0, 1) := dk_3 (dk_at dksJ7_copyOf_2_1 4 rfl rfl)
theorem dJ7_copyOf_2_29 : decode cJ7_copyOf_2 29 = .ok (.aload_n 0, 1) := dk_42 (dk_at dksJ7_copyOf_2_1 5 rfl rfl)
theorem dJ7_copyOf_2_30 : decode cJ7_copyOf_2 30 = .ok (.arraylength, 1) := dk_190 (dk_at dksJ7_copyOf_2_1 6 rfl rfl)
theorem dJ7_copyOf_2_31 : decode cJ7_copyOf_2 31 = .ok (.iload_n 1, 1) := dk_27 (dk_at dksJ7_copyOf_2_1 7 rfl rfl)
theorem dJ7_copyOf_2_32 : decode cJ7_copyOf_2 32 = .ok (.invokestatic 304, 3) := dk_184 1 48 (dk_at dksJ7_copyOf_2_1 8 rfl rfl)
theorem dJ7_copyOf_2_35 : decode cJ7_copyOf_2 35 = .ok (.invokestatic 150, 3) := dk_184 0 150 (dk_at dksJ7_copyOf_2_1 11 rfl rfl)
theorem dJ7_copyOf_2_38 : decode cJ7_copyOf_2 38 = .ok (.aload_n 3, 1) := dk_45 (dk_at dksJ7_copyOf_2_1 14 rfl rfl)
theorem dJ7_copyOf_2_39 : decode cJ7_copyOf_2 39 = .ok (.areturn, 1) := dk_176 (dk_at dksJ7_copyOf_2_1 15 rfl rfl)
def dkwX9_init_0 : List UInt8 := [42, 27, 28, 29, 21, 4, 21, 5, 183, 0, 3, 177]
abbrev dktX9_init_0 : List UInt8 := dkwX9_init_0 ++ []
theorem dksX9_init_0 : cX9_init.data.toList.drop 0 = dktX9_init_0 := by decide +kernel
theorem dX9_init_0 : decode cX9_init 0 = .ok (.aload_n 0, 1) := dk_42 (dk_at dksX9_init_0 0 rfl rfl)
theorem dX9_init_1 : decode cX9_init 1 = .ok (.iload_n 1, 1) := dk_27 (dk_at dksX9_init_0 1 rfl rfl)
theorem dX9_init_2 : decode cX9_init 2 = .ok (.iload_n 2, 1) := dk_28 (dk_at dksX9_init_0 2 rfl rfl)
theorem dX9_init_3 : decode cX9_init 3 = .ok (.iload_n 3, 1) := dk_29 (dk_at dksX9_init_0 3 rfl rfl)
theorem dX9_init_4 : decode cX9_init 4 = .ok (.iload 4, 2) := dk_21 4 (dk_at dksX9_init_0 4 rfl rfl)
theorem dX9_init_6 : decode cX9_init 6 = .ok (.iload 5, 2) := dk_21 5 (dk_at dksX9_init_0 6 rfl rfl)
theorem dX9_init_8 : decode cX9_init 8 = .ok (.invokespecial 3, 3) := dk_183 0 3 (dk_at dksX9_init_0 8 rfl rfl)
theorem dX9_init_11 : decode cX9_init 11 = .ok (.return_, 1) := dk_177 (dk_at dksX9_init_0 11 rfl rfl)
def dkwX9_kind_0 : List UInt8 := [42, 183, 0, 9, 4, 96, 172]
abbrev dktX9_kind_0 : List UInt8 := dkwX9_kind_0 ++ []
theorem dksX9_kind_0 : cX9_kind.data.toList.drop 0 = dktX9_kind_0 := by decide +kernel
theorem dX9_kind_0 : decode cX9_kind 0 = .ok (.aload_n 0, 1) := dk_42 (dk_at dksX9_kind_0 0 rfl rfl)
theorem dX9_kind_1 : decode cX9_kind 1 = .ok (.invokespecial 9, 3) := dk_183 0 9 (dk_at dksX9_kind_0 1 rfl rfl)
theorem dX9_kind_4 : decode cX9_kind 4 = .ok (.iconst 1, 1) := dk_4 (dk_at dksX9_kind_0 4 rfl rfl)
theorem dX9_kind_5 : decode cX9_kind 5 = .ok (.iadd, 1) := dk_96 (dk_at dksX9_kind_0 5 rfl rfl)
theorem dX9_kind_6 : decode cX9_kind 6 = .ok (.ireturn, 1) := dk_172 (dk_at dksX9_kind_0 6 rfl rfl)
def dkwX10_init_0 : List UInt8 := [42, 27, 28, 29, 21, 4, 21, 5, 183, 0, 3, 177]
abbrev dktX10_init_0 : List UInt8 := dkwX10_init_0 ++ []
theorem dksX10_init_0 : cX10_init.data.toList.drop 0 = dktX10_init_0 := by decide +kernel
theorem dX10_init_0 : decode cX10_init 0 = .ok (.aload_n 0, 1) := dk_42 (dk_at dksX10_init_0 0 rfl rfl)
theorem dX10_init_1 : decode cX10_init 1 = .ok (.iload_n 1, 1) := dk_27 (dk_at dksX10_init_0 1 rfl rfl)
theorem dX10_init_2 : decode cX10_init 2 = .ok (.iload_n 2, 1) := dk_28 (dk_at dksX10_init_0 2 rfl rfl)
theorem dX10_init_3 : decode cX10_init 3 = .ok (.iload_n 3, 1) := dk_29 (dk_at dksX10_init_0 3 rfl rfl)
theorem dX10_init_4 : decode cX10_init 4 = .ok (.iload 4, 2) := dk_21 4 (dk_at dksX10_init_0 4 rfl rfl)
theorem dX10_init_6 : decode cX10_init 6 = .ok (.iload 5, 2) := dk_21 5 (dk_at dksX10_init_0 6 rfl rfl)
theorem dX10_init_8 : decode cX10_init 8 = .ok (.invokespecial 3, 3) := dk_183 0 3 (dk_at dksX10_init_0 8 rfl rfl)
theorem dX10_init_11 : decode cX10_init 11 = .ok (.return_, 1) := dk_177 (dk_at dksX10_init_0 11 rfl rfl)
theorem dX10_kind_0 : decode cX10_kind 0 = .ok (.iconst 2, 1) := by decide +kernel
theorem dX10_kind_1 : decode cX10_kind 1 = .ok (.ireturn, 1) := by decide +kernel
def dkwX11_init_0 : List UInt8 := [42, 27, 28, 29, 21, 4, 21, 5, 183, 0, 3, 177]
abbrev dktX11_init_0 : List UInt8 := dkwX11_init_0 ++ []
theorem dksX11_init_0 : cX11_init.data.toList.drop 0 = dktX11_init_0 := by decide +kernel
theorem dX11_init_0 : decode cX11_init 0 = .ok (.aload_n 0, 1) := dk_42 (dk_at dksX11_init_0 0 rfl rfl)
theorem dX11_init_1 : decode cX11_init 1 = .ok (.iload_n 1, 1) := dk_27 (dk_at dksX11_init_0 1 rfl rfl)
theorem dX11_init_2 : decode cX11_init 2 = .ok (.iload_n 2, 1) := dk_28 (dk_at dksX11_init_0 2 rfl rfl)
theorem dX11_init_3 : decode cX11_init 3 = .ok (.iload_n 3, 1) := dk_29 (dk_at dksX11_init_0 3 rfl rfl)
theorem dX11_init_4 : decode cX11_init 4 = .ok (.iload 4, 2) := dk_21 4 (dk_at dksX11_init_0 4 rfl rfl)
theorem dX11_init_6 : decode cX11_init 6 = .ok (.iload 5, 2) := dk_21 5 (dk_at dksX11_init_0 6 rfl rfl)
theorem dX11_init_8 : decode cX11_init 8 = .ok (.invokespecial 3, 3) := dk_183 0 3 (dk_at dksX11_init_0 8 rfl rfl)
theorem dX11_init_11 : decode cX11_init 11 = .ok (.return_, 1) := dk_177 (dk_at dksX11_init_0 11 rfl rfl)
def dkwX11_kind_0 : List UInt8 := [42, 183, 0, 9, 6, 96, 5, 100, 172]
abbrev dktX11_kind_0 : List UInt8 := dkwX11_kind_0 ++ []
theorem dksX11_kind_0 : cX11_kind.data.toList.drop 0 = dktX11_kind_0 := by decide +kernel
theorem dX11_kind_0 : decode cX11_kind 0 = .ok (.aload_n 0, 1) := dk_42 (dk_at dksX11_kind_0 0 rfl rfl)
theorem dX11_kind_1 : decode cX11_kind 1 = .ok (.invokespecial 9, 3) := dk_183 0 9 (dk_at dksX11_kind_0 1 rfl rfl)
theorem dX11_kind_4 : decode cX11_kind 4 = .ok (.iconst 3, 1) := dk_6 (dk_at dksX11_kind_0 4 rfl rfl)
theorem dX11_kind_5 : decode cX11_kind 5 = .ok (.iadd, 1) := dk_96 (dk_at dksX11_kind_0 5 rfl rfl)
theorem dX11_kind_6 : decode cX11_kind 6 = .ok (.iconst 2, 1) := dk_5 (dk_at dksX11_kind_0 6 rfl rfl)
theorem dX11_kind_7 : decode cX11_kind 7 = .ok (.isub, 1) := dk_100 (dk_at dksX11_kind_0 7 rfl rfl)
theorem dX11_kind_8 : decode cX11_kind 8 = .ok (.ireturn, 1) := dk_172 (dk_at dksX11_kind_0 8 rfl rfl)
def dkwJ8_init_0 : List UInt8 := [42, 43, 183, 0, 7, 177]
abbrev dktJ8_init_0 : List UInt8 := dkwJ8_init_0 ++ []
theorem dksJ8_init_0 : cJ8_init.data.toList.drop 0 = dktJ8_init_0 := by decide +kernel
theorem dJ8_init_0 : decode cJ8_init 0 = .ok (.aload_n 0, 1) := dk_42 (dk_at dksJ8_init_0 0 rfl rfl)
theorem dJ8_init_1 : decode cJ8_init 1 = .ok (.aload_n 1, 1) := dk_43 (dk_at dksJ8_init_0 1 rfl rfl)
theorem dJ8_init_2 : decode cJ8_init 2 = .ok (.invokespecial 7, 3) := dk_183 0 7 (dk_at dksJ8_init_0 2 rfl rfl)
theorem dJ8_init_5 : decode cJ8_init 5 = .ok (.return_, 1) := dk_177 (dk_at dksJ8_init_0 5 rfl rfl)
def dkwJ9_init_0 : List UInt8 := [42, 43, 183, 0, 7, 177]
abbrev dktJ9_init_0 : List UInt8 := dkwJ9_init_0 ++ []
theorem dksJ9_init_0 : cJ9_init.data.toList.drop 0 = dktJ9_init_0 := by decide +kernel
theorem dJ9_init_0 : decode cJ9_init 0 = .ok (.aload_n 0, 1) := dk_42 (dk_at dksJ9_init_0 0 rfl rfl)
theorem dJ9_init_1 : decode cJ9_init 1 = .ok (.aload_n 1, 1) := dk_43 (dk_at dksJ9_init_0 1 rfl rfl)
theorem dJ9_init_2 : decode cJ9_init 2 = .ok (.invokespecial 7, 3) := dk_183 0 7 (dk_at dksJ9_init_0 2 rfl rfl)
theorem dJ9_init_5 : decode cJ9_init 5 = .ok (.return_, 1) := dk_177 (dk_at dksJ9_init_0 5 rfl rfl)
def dkwJ10_init_0 : List UInt8 := [42, 43, 183, 0, 7, 177]
abbrev dktJ10_init_0 : List UInt8 := dkwJ10_init_0 ++ []
theorem dksJ10_init_0 : cJ10_init.data.toList.drop 0 = dktJ10_init_0 := by decide +kernel
theorem dJ10_init_0 : decode cJ10_init 0 = .ok (.aload_n 0, 1) := dk_42 (dk_at dksJ10_init_0 0 rfl rfl)
theorem dJ10_init_1 : decode cJ10_init 1 = .ok (.aload_n 1, 1) := dk_43 (dk_at dksJ10_init_0 1 rfl rfl)
theorem dJ10_init_2 : decode cJ10_init 2 = .ok (.invokespecial 7, 3) := dk_183 0 7 (dk_at dksJ10_init_0 2 rfl rfl)
theorem dJ10_init_5 : decode cJ10_init 5 = .ok (.return_, 1) := dk_177 (dk_at dksJ10_init_0 5 rfl rfl)
def dkwJ11_length_0 : List UInt8 := [42, 180, 0, 9, 190, 42, 182, 1, 79, 122, 172]
abbrev dktJ11_length_0 : List UInt8 := dkwJ11_length_0 ++ []
theorem dksJ11_length_0 : cJ11_length.data.toList.drop 0 = dktJ11_length_0 := by decide +kernel
theorem dJ11_length_0 : decode cJ11_length 0 = .ok (.aload_n 0, 1) := dk_42 (dk_at dksJ11_length_0 0 rfl rfl)
theorem dJ11_length_1 : decode cJ11_length 1 = .ok (.getfield 9, 3) := dk_180 0 9 (dk_at dksJ11_length_0 1 rfl rfl)
theorem dJ11_length_4 : decode cJ11_length 4 = .ok (.arraylength, 1) := dk_190 (dk_at dksJ11_length_0 4 rfl rfl)
theorem dJ11_length_5 : decode cJ11_length 5 = .ok (.aload_n 0, 1) := dk_42 (dk_at dksJ11_length_0 5 rfl rfl)
theorem dJ11_length_6 : decode cJ11_length 6 = .ok (.invokevirtual 335, 3) := dk_182 1 79 (dk_at dksJ11_length_0 6 rfl rfl)
theorem dJ11_length_9 : decode cJ11_length 9 = .ok (.ishr, 1) := dk_122 (dk_at dksJ11_length_0 9 rfl rfl)
theorem dJ11_length_10 : decode cJ11_length 10 = .ok (.ireturn, 1) := dk_172 (dk_at dksJ11_length_0 10 rfl rfl)
def dkwJ11_coder_0 : List UInt8 := [178, 0, 38, 153, 0, 10, 42, 180, 0, 15, 167, 0, 4, 4, 172]
abbrev dktJ11_coder_0 : List UInt8 := dkwJ11_coder_0 ++ []
theorem dksJ11_coder_0 : cJ11_coder.data.toList.drop 0 = dktJ11_coder_0 := by decide +kernel
theorem dJ11_coder_0 : decode cJ11_coder 0 = .ok (.getstatic 38, 3) := dk_178 0 38 (dk_at dksJ11_coder_0 0 rfl rfl)
theorem dJ11_coder_3 : decode cJ11_coder 3 = .ok (.ifCond .eq 10, 3) := dk_153 0 10 (dk_at dksJ11_coder_0 3 rfl rfl)
theorem dJ11_coder_6 : decode cJ11_coder 6 = .ok (.aload_n 0, 1) := dk_42 (dk_at dksJ11_coder_0 6 rfl rfl)
theorem dJ11_coder_7 : decode cJ11_coder 7 = .ok (.getfield 15, 3) := dk_180 0 15 (dk_at dksJ11_coder_0 7 rfl rfl)
theorem dJ11_coder_10 : decode cJ11_coder 10 = .ok (.goto 4, 3) := dk_167 0 4 (dk_at dksJ11_coder_0 10 rfl rfl)
theorem dJ11_coder_13 : decode cJ11_coder 13 = .ok (.iconst 1, 1) := dk_4 (dk_at dksJ11_coder_0 13 rfl rfl)
theorem dJ11_coder_14 : decode cJ11_coder 14 = .ok (.ireturn, 1) := dk_172 (dk_at dksJ11_coder_0 14 rfl rfl)
def dkwJ11_charAt_1 : List UInt8 := [172]
abbrev dktJ11_charAt_1 : List UInt8 := dkwJ11_charAt_1 ++ []
def dkwJ11_charAt_0 : List UInt8 := [42, 182, 1, 236, 153, 0, 12, 42, 180, 0, 9, 27, 184, 1, 239, 172, 42, 180, 0, 9, 27, 184, 1, 242]
abbrev dktJ11_charAt_0 : List UInt8 := dkwJ11_charAt_0 ++ dktJ11_charAt_1
theorem dksJ11_charAt_0 : cJ11_charAt.data.toList.drop 0 = dktJ11_charAt_0 := by decide +kernel
theorem dksJ11_charAt_1 : cJ11_charAt.data.toList.drop 24 = dktJ11_charAt_1 := dk_seg dksJ11_charAt_0 24 rfl rfl
theorem dJ11_charAt_0 : decode cJ11_charAt 0 = .ok (.aload_n 0, 1) := dk_42 (dk_at dksJ11_charAt_0 0 rfl rfl)
theorem dJ11_charAt_1 : decode cJ11_charAt 1 = .ok (.invokevirtual 492, 3) := dk_182 1 236 (dk_at dksJ11_charAt_0 1 rfl rfl)
theorem dJ11_charAt_4 : decode cJ11_charAt 4 = .ok (.ifCond .eq 12, 3) := dk_153 0 12 (dk_at dksJ11_charAt_0 4 rfl rfl)
theorem dJ11_charAt_7 : decode cJ11_charAt 7 = .ok (.aload_n 0, 1) := dk_42 (dk_at dksJ11_charAt_0 7 rfl rfl)
theorem dJ11_charAt_8 : decode cJ11_charAt 8 = .ok (.getfield 9, 3) := dk_180 0 9 (dk_at dksJ11_charAt_0 8 rfl rfl)
theorem dJ11_charAt_11 : decode cJ11_charAt 11 = .ok (.iload_n 1, 1) := dk_27 (dk_at dksJ11_charAt_0 11 rfl rfl)
theorem dJ11_charAt_12 : decode cJ11_charAt 12 = .ok (.invokestatic 495, 3) := dk_184 1 239 (dk_at dksJ11_charAt_0 12 rfl rfl)
theorem dJ11_charAt_15 : decode cJ11_charAt 15 = .ok (.ireturn, 1) := dk_172 (dk_at dksJ11_charAt_0 15 rfl rfl)
theorem dJ11_charAt_16 : decode cJ11_charAt 16 = .ok (.aload_n 0, 1) := dk_42 (dk_at dksJ11_charAt_0 16 rfl rfl)
theorem dJ11_charAt_17 : decode cJ11_charAt 17 = .ok (.getfield 9, 3) := dk_180 0 9 (dk_at dksJ11_charAt_0 17 rfl rfl)
theorem dJ11_charAt_20 : decode cJ11_charAt 20 = .ok (.iload_n 1, 1) := dk_27 (dk_at dksJ11_charAt_0 20 rfl rfl)
theorem dJ11_charAt_21 : decode cJ11_charAt 21 = .ok (.invokestatic 498, 3) := dk_184 1 242 (dk_at dksJ11_charAt_0 21 rfl rfl)
theorem dJ11_charAt_24 : decode cJ11_charAt 24 = .ok (.ireturn, 1) := dk_172 (dk_at dksJ11_charAt_1 0 rfl rfl)
def dkwJ11_isLatin1_0 : List UInt8 := [178, 0, 38, 153, 0, 14, 42, 180, 0, 15, 154, 0, 7, 4, 167, 0, 4, 3, 172]
abbrev dktJ11_isLatin1_0 : List UInt8 := dkwJ11_isLatin1_0 ++ []
theorem dksJ11_isLatin1_0 : cJ11_isLatin1.data.toList.drop 0 = dktJ11_isLatin1_0 := by decide +kernel
theorem dJ11_isLatin1_0 : decode cJ11_isLatin1 0 = .ok (.getstatic 38, 3) := dk_178 0 38 (dk_at dksJ11_isLatin1_0 0 rfl rfl)
theorem dJ11_isLatin1_3 : decode cJ11_isLatin1 3 = .ok (.ifCond .eq 14, 3) := dk_153 0 14 (dk_at dksJ11_isLatin1_0 3 rfl rfl)
theorem dJ11_isLatin1_6 : decode cJ11_isLatin1 6 = .ok (.aload_n 0, 1) := dk_42 (dk_at dksJ11_isLatin1_0 6 rfl rfl)
theorem dJ11_isLatin1_7 : decode cJ11_isLatin1 7 = .ok (.getfield 15, 3) := dk_180 0 15 (dk_at dksJ11_isLatin1_0 7 rfl rfl)
theorem dJ11_isLatin1_10 : decode cJ11_isLatin1 10 = .ok (.ifCond .ne 7, 3) := dk_154 0 7 (dk_at dksJ11_isLatin1_0 10 rfl rfl)
theorem dJ11_isLatin1_13 : decode cJ11_isLatin1 13 = .ok (.iconst 1, 1) := dk_4 (dk_at dksJ11_isLatin1_0 13 rfl rfl)
theorem dJ11_isLatin1_14 : decode cJ11_isLatin1 14 = .ok (.goto 4, 3) := dk_167 0 4 (dk_at dksJ11_isLatin1_0 14 rfl rfl)
theorem dJ11_isLatin1_17 : decode cJ11_isLatin1 17 = .ok (.iconst 0, 1) := dk_3 (dk_at dksJ11_isLatin1_0 17 rfl rfl)
theorem dJ11_isLatin1_18 : decode cJ11_isLatin1 18 = .ok (.ireturn, 1) := dk_172 (dk_at dksJ11_isLatin1_0 18 rfl rfl)
def dkwJ11_checkIndex_0 : List UInt8 := [26, 27, 178, 4, 29, 184, 4, 35, 87, 177]
abbrev dktJ11_checkIndex_0 : List UInt8 := dkwJ11_checkIndex_0 ++ []
theorem dksJ11_checkIndex_0 : cJ11_checkIndex.data.toList.drop 0 = dktJ11_checkIndex_0 := by decide +kernel
theorem dJ11_checkIndex_0 : decode cJ11_checkIndex 0 = .ok (.iload_n 0, 1) := dk_26 (dk_at dksJ11_checkIndex_0 0 rfl rfl)
theorem dJ11_checkIndex_1 : decode cJ11_checkIndex 1 = .ok (.iload_n 1, 1) := dk_27 (dk_at dksJ11_checkIndex_0 1 rfl rfl)
theorem dJ11_checkIndex_2 : decode cJ11_checkIndex 2 = .ok (.getstatic 1053, 3) := dk_178 4 29 (dk_at dksJ11_checkIndex_0 2 rfl rfl)
theorem dJ11_checkIndex_5 : decode cJ11_checkIndex 5 = .ok (.invokestatic 1059, 3) := dk_184 4 35 (dk_at dksJ11_checkIndex_0 5 rfl rfl)
theorem dJ11_checkIndex_8 : decode cJ11_checkIndex 8 = .ok (.pop, 1) := dk_87 (dk_at dksJ11_checkIndex_0 8 rfl rfl)
theorem dJ11_checkIndex_9 : decode cJ11_checkIndex 9 = .ok (.return_, 1) := dk_177 (dk_at dksJ11_checkIndex_0 9 rfl rfl)
def dkwJ12_checkIndex_0 : List UInt8 := [26, 27, 1, 184, 0, 105, 172]
abbrev dktJ12_checkIndex_0 : List UInt8 := dkwJ12_checkIndex_0 ++ []
theorem dksJ12_checkIndex_0 : cJ12_checkIndex.data.toList.drop 0 = dktJ12_checkIndex_0 := by decide +kernel
theorem dJ12_checkIndex_0 : decode cJ12_checkIndex 0 = .ok (.iload_n 0, 1) := dk_26 (dk_at dksJ12_checkIndex_0 0 rfl rfl)
theorem dJ12_checkIndex_1 : decode cJ12_checkIndex 1 = .ok (.iload_n 1, 1) := dk_27 (dk_at dksJ12_checkIndex_0 1 rfl rfl)
theorem dJ12_checkIndex_2 : decode cJ12_checkIndex 2 = .ok (.aconst_null, 1) := dk_1 (dk_at dksJ12_checkIndex_0 2 rfl rfl)
theorem dJ12_checkIndex_3 : decode cJ12_checkIndex 3 = .ok (.invokestatic 105, 3) := dk_184 0 105 (dk_at dksJ12_checkIndex_0 3 rfl rfl)
theorem dJ12_checkIndex_6 : decode cJ12_checkIndex 6 = .ok (.ireturn, 1) := dk_172 (dk_at dksJ12_checkIndex_0 6 rfl rfl)
def dkwJ13_checkIndex_0 : List UInt8 := [26, 155, 0, 8, 26, 27, 161, 0, 10, 44, 26, 27, 184, 0, 95, 191, 26, 172]
abbrev dktJ13_checkIndex_0 : List UInt8 := dkwJ13_checkIndex_0 ++ []
theorem dksJ13_checkIndex_0 : cJ13_checkIndex.data.toList.drop 0 = dktJ13_checkIndex_0 := by decide +kernel
theorem dJ13_checkIndex_0 : decode cJ13_checkIndex 0 = .ok (.iload_n 0, 1) := dk_26 (dk_at dksJ13_checkIndex_0 0 rfl rfl)
theorem dJ13_checkIndex_1 : decode cJ13_checkIndex 1 = .ok (.ifCond .lt 8, 3) := dk_155 0 8 (dk_at dksJ13_checkIndex_0 1 rfl rfl)
theorem dJ13_checkIndex_4 : decode cJ13_checkIndex 4 = .ok (.iload_n 0, 1) := dk_26 (dk_at dksJ13_checkIndex_0 4 rfl rfl)
theorem dJ13_checkIndex_5 : decode cJ13_checkIndex 5 = .ok (.iload_n 1, 1) := dk_27 (dk_at dksJ13_checkIndex_0 5 rfl rfl)
theorem dJ13_checkIndex_6 : decode cJ13_checkIndex 6 = .ok (.if_icmp .lt 10, 3) := dk_161 0 10 (dk_at dksJ13_checkIndex_0 6 rfl rfl)
theorem dJ13_checkIndex_9 : decode cJ13_checkIndex 9 = .ok (.aload_n 2, 1) := dk_44 (dk_at dksJ13_checkIndex_0 9 rfl rfl)
theorem dJ13_checkIndex_10 : decode cJ13_checkIndex 10 = .ok (.iload_n 0, 1) := dk_26 (dk_at dksJ13_checkIndex_0 10 rfl rfl)
theorem dJ13_checkIndex_11 : decode cJ13_checkIndex 11 = .ok (.iload_n 1, 1) := dk_27 (dk_at dksJ13_checkIndex_0 11 rfl rfl)
theorem dJ13_checkIndex_12 : decode cJ13_checkIndex 12 = .ok (.invokestatic 95, 3) := dk_184 0 95 (dk_at dksJ13_checkIndex_0 12 rfl rfl)
theorem dJ13_checkIndex_15 : decode cJ13_checkIndex 15 = .ok (.athrow, 1) := dk_191 (dk_at dksJ13_checkIndex_0 15 rfl rfl)
theorem dJ13_checkIndex_16 : decode cJ13_checkIndex 16 = .ok (.iload_n 0, 1) := dk_26 (dk_at dksJ13_checkIndex_0 16 rfl rfl)
theorem dJ13_checkIndex_17 : decode cJ13_checkIndex 17 = .ok (.ireturn, 1) := dk_172 (dk_at dksJ13_checkIndex_0 17 rfl rfl)
def dkwX12_init_1 : List UInt8 := [181, 0, 19, 42, 21, 5, 181, 0, 22, 177]
abbrev dktX12_init_1 : List UInt8 := dkwX12_init_1 ++ []
def dkwX12_init_0 : List UInt8 := [42, 183, 0, 1, 42, 27, 181, 0, 7, 42, 28, 181, 0, 13, 42, 29, 181, 0, 16, 42, 21, 4]
abbrev dktX12_init_0 : List UInt8 := dkwX12_init_0 ++ dktX12_init_1
theorem dksX12_init_0 : cX12_init.data.toList.drop 0 = dktX12_init_0 := by decide +kernel
theorem dksX12_init_1 : cX12_init.data.toList.drop 22 = dktX12_init_1 := dk_seg dksX12_init_0 22 rfl rfl
theorem dX12_init_0 : decode cX12_init 0 = .ok (.aload_n 0, 1) := dk_42 (dk_at dksX12_init_0 0 rfl rfl)
theorem dX12_init_1 : decode cX12_init 1 = .ok (.invokespecial 1, 3) := dk_183 0 1 (dk_at dksX12_init_0 1 rfl rfl)
theorem dX12_init_4 : decode cX12_init 4 = .ok (.aload_n 0, 1) := dk_42 (dk_at dksX12_init_0 4 rfl rfl)
theorem dX12_init_5 : decode cX12_init 5 = .ok (.iload_n 1, 1) := dk_27 (dk_at dksX12_init_0 5 rfl rfl)
theorem dX12_init_6 : decode cX12_init 6 = .ok (.putfield 7, 3) := dk_181 0 7 (dk_at dksX12_init_0 6 rfl rfl)
theorem dX12_init_9 : decode cX12_init 9 = .ok (.aload_n 0, 1) := dk_42 (dk_at dksX12_init_0 9 rfl rfl)
theorem dX12_init_10 : decode cX12_init 10 = .ok (.iload_n 2, 1) := dk_28 (dk_at dksX12_init_0 10 rfl rfl)
theorem dX12_init_11 : decode cX12_init 11 = .ok (.putfield 13, 3) := dk_181 0 13 (dk_at dksX12_init_0 11 rfl rfl)
theorem dX12_init_14 : decode cX12_init 14 = .ok (.aload_n 0, 1) := dk_42 (dk_at dksX12_init_0 14 rfl rfl)
theorem dX12_init_15 : decode cX12_init 15 = .ok (.iload_n 3, 1) := dk_29 (dk_at dksX12_init_0 15 rfl rfl)
theorem dX12_init_16 : decode cX12_init 16 = .ok (.putfield 16, 3) := dk_181 0 16 (dk_at dksX12_init_0 16 rfl rfl)
theorem dX12_init_19 : decode cX12_init 19 = .ok (.aload_n 0, 1) := dk_42 (dk_at dksX12_init_0 19 rfl rfl)
theorem dX12_init_20 : decode cX12_init 20 = .ok (.iload 4, 2) := dk_21 4 (dk_at dksX12_init_0 20 rfl rfl)
theorem dX12_init_22 : decode cX12_init 22 = .ok (.putfield 19, 3) := dk_181 0 19 (dk_at dksX12_init_1 0 rfl rfl)
theorem dX12_init_25 : decode cX12_init 25 = .ok (.aload_n 0, 1) := dk_42 (dk_at dksX12_init_1 3 rfl rfl)
theorem dX12_init_26 : decode cX12_init 26 = .ok (.iload 5, 2) := dk_21 5 (dk_at dksX12_init_1 4 rfl rfl)
theorem dX12_init_28 : decode cX12_init 28 = .ok (.putfield 22, 3) := dk_181 0 22 (dk_at dksX12_init_1 6 rfl rfl)
theorem dX12_init_31 : decode cX12_init 31 = .ok (.return_, 1) := dk_177 (dk_at dksX12_init_1 9 rfl rfl)
def dkwX13_init_1 : List UInt8 := [181, 0, 24, 177]
abbrev dktX13_init_1 : List UInt8 := dkwX13_init_1 ++ []
def dkwX13_init_0 : List UInt8 := [42, 183, 0, 3, 42, 187, 0, 9, 89, 5, 183, 0, 11, 181, 0, 14, 42, 43, 181, 0, 20, 42, 28]
abbrev dktX13_init_0 : List UInt8 := dkwX13_init_0 ++ dktX13_init_1
theorem dksX13_init_0 : cX13_init.data.toList.drop 0 = dktX13_init_0 := by decide +kernel
theorem dksX13_init_1 : cX13_init.data.toList.drop 23 = dktX13_init_1 := dk_seg dksX13_init_0 23 rfl rfl
theorem dX13_init_0 : decode cX13_init 0 = .ok (.aload_n 0, 1) := dk_42 (dk_at dksX13_init_0 0 rfl rfl)
theorem dX13_init_1 : decode cX13_init 1 = .ok (.invokespecial 3, 3) := dk_183 0 3 (dk_at dksX13_init_0 1 rfl rfl)
theorem dX13_init_4 : decode cX13_init 4 = .ok (.aload_n 0, 1) := dk_42 (dk_at dksX13_init_0 4 rfl rfl)
theorem dX13_init_5 : decode cX13_init 5 = .ok (.new 9, 3) := dk_187 0 9 (dk_at dksX13_init_0 5 rfl rfl)
theorem dX13_init_8 : decode cX13_init 8 = .ok (.dup, 1) := dk_89 (dk_at dksX13_init_0 8 rfl rfl)
theorem dX13_init_9 : decode cX13_init 9 = .ok (.iconst 2, 1) := dk_5 (dk_at dksX13_init_0 9 rfl rfl)
theorem dX13_init_10 : decode cX13_init 10 = .ok (.invokespecial 11, 3) := dk_183 0 11 (dk_at dksX13_init_0 10 rfl rfl)
theorem dX13_init_13 : decode cX13_init 13 = .ok (.putfield 14, 3) := dk_181 0 14 (dk_at dksX13_init_0 13 rfl rfl)
theorem dX13_init_16 : decode cX13_init 16 = .ok (.aload_n 0, 1) := dk_42 (dk_at dksX13_init_0 16 rfl rfl)
theorem dX13_init_17 : decode cX13_init 17 = .ok (.aload_n 1, 1) := dk_43 (dk_at dksX13_init_0 17 rfl rfl)
theorem dX13_init_18 : decode cX13_init 18 = .ok (.putfield 20, 3) := dk_181 0 20 (dk_at dksX13_init_0 18 rfl rfl)
theorem dX13_init_21 : decode cX13_init 21 = .ok (.aload_n 0, 1) := dk_42 (dk_at dksX13_init_0 21 rfl rfl)
theorem dX13_init_22 : decode cX13_init 22 = .ok (.iload_n 2, 1) := dk_28 (dk_at dksX13_init_0 22 rfl rfl)
theorem dX13_init_23 : decode cX13_init 23 = .ok (.putfield 24, 3) := dk_181 0 24 (dk_at dksX13_init_1 0 rfl rfl)
theorem dX13_init_26 : decode cX13_init 26 = .ok (.return_, 1) := dk_177 (dk_at dksX13_init_1 3 rfl rfl)
def dkwX13_read_1 : List UInt8 := [42, 180, 0, 31, 42, 180, 0, 24, 162, 0, 15, 187, 0, 58, 89, 42, 180, 0, 31, 183, 0, 60, 191, 177]
abbrev dktX13_read_1 : List UInt8 := dkwX13_read_1 ++ []
def dkwX13_read_0 : List UInt8 := [42, 182, 0, 52, 42, 182, 0, 61, 42, 18, 64, 182, 0, 55, 153, 0, 10, 42, 182, 0, 61, 167, 255, 243]
abbrev dktX13_read_0 : List UInt8 := dkwX13_read_0 ++ dktX13_read_1
theorem dksX13_read_0 : cX13_read.data.toList.drop 0 = dktX13_read_0 := by decide +kernel
theorem dksX13_read_1 : cX13_read.data.toList.drop 24 = dktX13_read_1 := dk_seg dksX13_read_0 24 rfl rfl
theorem dX13_read_0 : decode cX13_read 0 = .ok (.aload_n 0, 1) := dk_42 (dk_at dksX13_read_0 0 rfl rfl)
theorem dX13_read_1 : decode cX13_read 1 = .ok (.invokevirtual 52, 3) := dk_182 0 52 (dk_at dksX13_read_0 1 rfl rfl)
theorem dX13_read_4 : decode cX13_read 4 = .ok (.aload_n 0, 1) := dk_42 (dk_at dksX13_read_0 4 rfl rfl)
theorem dX13_read_5 : decode cX13_read 5 = .ok (.invokevirtual 61, 3) := dk_182 0 61 (dk_at dksX13_read_0 5 rfl rfl)
theorem dX13_read_8 : decode cX13_read 8 = .ok (.aload_n 0, 1) := dk_42 (dk_at dksX13_read_0 8 rfl rfl)
theorem dX13_read_9 : decode cX13_read 9 = .ok (.ldc 64, 2) := dk_18 64 (dk_at dksX13_read_0 9 rfl rfl)
theorem dX13_read_11 : decode cX13_read 11 = .ok (.invokevirtual 55, 3) := dk_182 0 55 (dk_at dksX13_read_0 11 rfl rfl)
theorem dX13_read_14 : decode cX13_read 14 = .ok (.ifCond .eq 10, 3) := dk_153 0 10 (dk_at dksX13_read_0 14 rfl rfl)
theorem dX13_read_17 : decode cX13_read 17 = .ok (.aload_n 0, 1) := dk_42 (dk_at dksX13_read_0 17 rfl rfl)
theorem dX13_read_18 : decode cX13_read 18 = .ok (.invokevirtual 61, 3) := dk_182 0 61 (dk_at dksX13_read_0 18 rfl rfl)
theorem dX13_read_21 : decode cX13_read 21 = .ok (.goto (-13), 3) := dk_167 255 243 (dk_at dksX13_read_0 21 rfl rfl)
theorem dX13_read_24 : decode cX13_read 24 = .ok (.aload_n 0, 1) := dk_42 (dk_at dksX13_read_1 0 rfl rfl)
theorem dX13_read_25 : decode cX13_read 25 = .ok (.getfield 31, 3) := dk_180 0 31 (dk_at dksX13_read_1 1 rfl rfl)
theorem dX13_read_28 : decode cX13_read 28 = .ok (.aload_n 0, 1) := dk_42 (dk_at dksX13_read_1 4 rfl rfl)
theorem dX13_read_29 : decode cX13_read 29 = .ok (.getfield 24, 3) := dk_180 0 24 (dk_at dksX13_read_1 5 rfl rfl)
theorem dX13_read_32 : decode cX13_read 32 = .ok (.if_icmp .ge 15, 3) := dk_162 0 15 (dk_at dksX13_read_1 8 rfl rfl)
theorem dX13_read_35 : decode cX13_read 35 = .ok (.new 58, 3) := dk_187 0 58 (dk_at dksX13_read_1 11 rfl rfl)
theorem dX13_read_38 : decode cX13_read 38 = .ok (.dup, 1) := dk_89 (dk_at dksX13_read_1 14 rfl rfl)
theorem dX13_read_39 : decode cX13_read 39 = .ok (.aload_n 0, 1) := dk_42 (dk_at dksX13_read_1 15 rfl rfl)
theorem dX13_read_40 : decode cX13_read 40 = .ok (.getfield 31, 3) := dk_180 0 31 (dk_at dksX13_read_1 16 rfl rfl)
theorem dX13_read_43 : decode cX13_read 43 = .ok (.invokespecial 60, 3) := dk_183 0 60 (dk_at dksX13_read_1 19 rfl rfl)
theorem dX13_read_46 : decode cX13_read 46 = .ok (.athrow, 1) := dk_191 (dk_at dksX13_read_1 22 rfl rfl)
theorem dX13_read_47 : decode cX13_read 47 = .ok (.return_, 1) := dk_177 (dk_at dksX13_read_1 23 rfl rfl)
def dkwX13_next_6 : List UInt8 := [162, 0, 13, 42, 89, 180, 0, 28, 4, 96, 181, 0, 28, 177]
abbrev dktX13_next_6 : List UInt8 := dkwX13_next_6 ++ []
def dkwX13_next_5 : List UInt8 := [153, 0, 37, 42, 89, 180, 0, 28, 4, 96, 181, 0, 28, 167, 255, 231, 42, 180, 0, 31, 42, 180, 0, 24]
abbrev dktX13_next_5 : List UInt8 := dkwX13_next_5 ++ dktX13_next_6
def dkwX13_next_4 : List UInt8 := [16, 48, 16, 57, 182, 0, 34, 153, 0, 31, 42, 42, 180, 0, 28, 16, 48, 16, 57, 182, 0, 34]
abbrev dktX13_next_4 : List UInt8 := dkwX13_next_4 ++ dktX13_next_5
def dkwX13_next_3 : List UInt8 := [182, 0, 34, 153, 0, 80, 42, 89, 180, 0, 28, 4, 96, 181, 0, 28, 167, 255, 231, 42, 42, 180, 0, 31]
abbrev dktX13_next_3 : List UInt8 := dkwX13_next_3 ++ dktX13_next_4
def dkwX13_next_2 : List UInt8 := [180, 0, 31, 16, 97, 16, 122, 182, 0, 34, 153, 0, 31, 42, 42, 180, 0, 28, 16, 97, 16, 122]
abbrev dktX13_next_2 : List UInt8 := dkwX13_next_2 ++ dktX13_next_3
def dkwX13_next_1 : List UInt8 := [89, 180, 0, 31, 4, 96, 181, 0, 31, 167, 255, 231, 42, 42, 180, 0, 31, 181, 0, 28, 42, 42]
abbrev dktX13_next_1 : List UInt8 := dkwX13_next_1 ++ dktX13_next_2
def dkwX13_next_0 : List UInt8 := [42, 42, 180, 0, 28, 181, 0, 31, 42, 42, 180, 0, 31, 16, 32, 16, 32, 182, 0, 34, 153, 0, 16, 42]
abbrev dktX13_next_0 : List UInt8 := dkwX13_next_0 ++ dktX13_next_1
theorem dksX13_next_0 : cX13_next.data.toList.drop 0 = dktX13_next_0 := by decide +kernel
theorem dksX13_next_1 : cX13_next.data.toList.drop 24 = dktX13_next_1 := dk_seg dksX13_next_0 24 rfl rfl
theorem dksX13_next_2 : cX13_next.data.toList.drop 46 = dktX13_next_2 := dk_seg dksX13_next_1 22 rfl rfl
theorem dksX13_next_3 : cX13_next.data.toList.drop 68 = dktX13_next_3 := dk_seg dksX13_next_2 22 rfl rfl
theorem dksX13_next_4 : cX13_next.data.toList.drop 92 = dktX13_next_4 := dk_seg dksX13_next_3 24 rfl rfl
theorem dksX13_next_5 : cX13_next.data.toList.drop 114 = dktX13_next_5 := dk_seg dksX13_next_4 22 rfl rfl
theorem dksX13_next_6 : cX13_next.data.toList.drop 138 = dktX13_next_6 := dk_seg dksX13_next_5 24 rfl rfl
theorem dX13_next_0 : decode cX13_next 0 = .ok (.aload_n 0, 1) := dk_42 (dk_at dksX13_next_0 0 rfl rfl)
theorem dX13_next_1 : decode cX13_next 1 = .ok (.aload_n 0, 1) := dk_42 (dk_at dksX13_next_0 1 rfl rfl)
theorem dX13_next_2 : decode cX13_next 2 = .ok (.getfield 28, 3) := dk_180 0 28 (dk_at dksX13_next_0 2 rfl rfl)
theorem dX13_next_5 : decode cX13_next 5 = .ok (.putfield 31, 3) := dk_181 0 31 (dk_at dksX13_next_0 5 rfl rfl)
theorem dX13_next_8 : decode cX13_next 8 = .ok (.aload_n 0, 1) := dk_42 (dk_at dksX13_next_0 8 rfl rfl)
theorem dX13_next_9 : decode cX13_next 9 = .ok (.aload_n 0, 1) := dk_42 (dk_at dksX13_next_0 9 rfl rfl)
theorem dX13_next_10 : decode cX13_next 10 = .ok (.getfield 31, 3) := dk_180 0 31 (dk_at dksX13_next_0 10 rfl rfl)
theorem dX13_next_13 : decode cX13_next 13 = .ok (.bipush 32, 2) := dk_16 32 (dk_at dksX13_next_0 13 rfl rfl)
theorem dX13_next_15 : decode cX13_next 15 = .ok (.bipush 32, 2) := dk_16 32 (dk_at dksX13_next_0 15 rfl rfl)
theorem dX13_next_17 : decode cX13_next 17 = .ok (.invokevirtual 34, 3) := dk_182 0 34 (dk_at dksX13_next_0 17 rfl rfl)
theorem dX13_next_20 : decode cX13_next 20 = .ok (.ifCond .eq 16, 3) := dk_153 0 16 (dk_at dksX13_next_0 20 rfl rfl)
theorem dX13_next_23 : decode cX13_next 23 = .ok (.aload_n 0, 1) := dk_42 (dk_at dksX13_next_0 23 rfl rfl)
theorem dX13_next_24 : decode cX13_next 24 = .ok (.dup, 1) := dk_89 (dk_at dksX13_next_1 0 rfl rfl)
theorem dX13_next_25 : decode cX13_next 25 = .ok (.getfield 31, 3) := dk_180 0 31 (dk_at dksX13_next_1 1 rfl rfl)
theorem dX13_next_28 : decode cX13_next 28 = .ok (.iconst 1, 1) := dk_4 (dk_at dksX13_next_1 4 rfl rfl)
theorem dX13_next_29 : decode cX13_next 29 = .ok (.iadd, 1) := dk_96 (dk_at dksX13_next_1 5 rfl rfl)
theorem dX13_next_30 : decode cX13_next 30 = .ok (.putfield 31, 3) := dk_181 0 31 (dk_at dksX13_next_1 6 rfl rfl)
theorem dX13_next_33 : decode cX13_next 33 = .ok (.goto (-25), 3) := dk_167 255 231 (dk_at dksX13_next_1 9 rfl rfl)
theorem dX13_next_36 : decode cX13_next 36 = .ok (.aload_n 0, 1) := dk_42 (dk_at dksX13_next_1 12 rfl rfl)
theorem dX13_next_37 : decode cX13_next 37 = .ok (.aload_n 0, 1) := dk_42 (dk_at dksX13_next_1 13 rfl rfl)
theorem dX13_next_38 : decode cX13_next 38 = .ok (.getfield 31, 3) := dk_180 0 31 (dk_at dksX13_next_1 14 rfl rfl)
theorem dX13_next_41 : decode cX13_next 41 = .ok (.putfield 28, 3) := dk_181 0 28 (dk_at dksX13_next_1 17 rfl rfl)
theorem dX13_next_44 : decode cX13_next 44 = .ok (.aload_n 0, 1) := dk_42 (dk_at dksX13_next_1 20 rfl rfl)
theorem dX13_next_45 : decode cX13_next 45 = .ok (.aload_n 0, 1) := dk_42 (dk_at dksX13_next_1 21 rfl rfl)
theorem dX13_next_46 : decode cX13_next 46 = .ok (.getfield 31, 3) := dk_180 0 31 (dk_at dksX13_next_2 0 rfl rfl)
theorem dX13_next_49 : decode cX13_next 49 = .ok (.bipush 97, 2) := dk_16 97 (dk_at dksX13_next_2 3 rfl rfl)
theorem dX13_next_51 : decode cX13_next 51 = .ok (.bipush 122, 2) := dk_16 122 (dk_at dksX13_next_2 5 rfl rfl)
theorem dX13_next_53 : decode cX13_next 53 = .ok (.invokevirtual 34, 3) := dk_182 0 34 (dk_at dksX13_next_2 7 rfl rfl)
theorem dX13_next_56 : decode cX13_next 56 = .ok (.ifCond .eq 31, 3) := dk_153 0 31 (dk_at dksX13_next_2 10 rfl rfl)
theorem dX13_next_59 : decode cX13_next 59 = .ok (.aload_n 0, 1) := dk_42 (dk_at dksX13_next_2 13 rfl rfl)
theorem dX13_next_60 : decode cX13_next 60 = .ok (.aload_n 0, 1) := dk_42 (dk_at dksX13_next_2 14 rfl rfl)
theorem dX13_next_61 : decode cX13_next 61 = .ok (.getfield 28, 3) := dk_180 0 28 (dk_at dksX13_next_2 15 rfl rfl)
theorem dX13_next_64 : decode cX13_next 64 = .ok (.bipush 97, 2) := dk_16 97 (dk_at dksX13_next_2 18 rfl rfl)
theorem dX13_next_66 : decode cX13_next 66 = .ok (.bipush 122, 2) := dk_16 122 (dk_at dksX13_next_2 20 rfl rfl)
theorem dX13_next_68 : decode cX13_next 68 = .ok (.invokevirtual 34, 3) := dk_182 0 34 (dk_at dksX13_next_3 0 rfl rfl)
theorem dX13_next_71 : decode cX13_next 71 = .ok (.ifCond .eq 80, 3) := dk_153 0 80 (dk_at dksX13_next_3 3 rfl rfl)
theorem dX13_next_74 : decode cX13_next 74 = .ok (.aload_n 0, 1) := dk_42 (dk_at dksX13_next_3 6 rfl rfl)
theorem dX13_next_75 : decode cX13_next 75 = .ok (.dup, 1) := dk_89 (dk_at dksX13_next_3 7 rfl rfl)
theorem dX13_next_76 : decode cX13_next 76 = .ok (.getfield 28, 3) := dk_180 0 28 (dk_at dksX13_next_3 8 rfl rfl)
theorem dX13_next_79 : decode cX13_next 79 = .ok (.iconst 1, 1) := dk_4 (dk_at dksX13_next_3 11 rfl rfl)
theorem dX13_next_80 : decode cX13_next 80 = .ok (.iadd, 1) := dk_96 (dk_at dksX13_next_3 12 rfl rfl)
theorem dX13_next_81 : decode cX13_next 81 = .ok (.putfield 28, 3) := dk_181 0 28 (dk_at dksX13_next_3 13 rfl rfl)
theorem dX13_next_84 : decode cX13_next 84 = .ok (.goto (-25), 3) := dk_167 255 231 (dk_at dksX13_next_3 16 rfl rfl)
theorem dX13_next_87 : decode cX13_next 87 = .ok (.aload_n 0, 1) := dk_42 (dk_at dksX13_next_3 19 rfl rfl)
theorem dX13_next_88 : decode cX13_next 88 = .ok (.aload_n 0, 1) := dk_42 (dk_at dksX13_next_3 20 rfl rfl)
theorem dX13_next_89 : decode cX13_next 89 = .ok (.getfield 31, 3) := dk_180 0 31 (dk_at dksX13_next_3 21 rfl rfl)
theorem dX13_next_92 : decode cX13_next 92 = .ok (.bipush 48, 2) := dk_16 48 (dk_at dksX13_next_4 0 rfl rfl)
theorem dX13_next_94 : decode cX13_next 94 = .ok (.bipush 57, 2) := dk_16 57 (dk_at dksX13_next_4 2 rfl rfl)
theorem dX13_next_96 : decode cX13_next 96 = .ok (.invokevirtual 34, 3) := dk_182 0 34 (dk_at dksX13_next_4 4 rfl rfl)
theorem dX13_next_99 : decode cX13_next 99 = .ok (.ifCond .eq 31, 3) := dk_153 0 31 (dk_at dksX13_next_4 7 rfl rfl)
theorem dX13_next_102 : decode cX13_next 102 = .ok (.aload_n 0, 1) := dk_42 (dk_at dksX13_next_4 10 rfl rfl)
theorem dX13_next_103 : decode cX13_next 103 = .ok (.aload_n 0, 1) := dk_42 (dk_at dksX13_next_4 11 rfl rfl)
theorem dX13_next_104 : decode cX13_next 104 = .ok (.getfield 28, 3) := dk_180 0 28 (dk_at dksX13_next_4 12 rfl rfl)
theorem dX13_next_107 : decode cX13_next 107 = .ok (.bipush 48, 2) := dk_16 48 (dk_at dksX13_next_4 15 rfl rfl)
theorem dX13_next_109 : decode cX13_next 109 = .ok (.bipush 57, 2) := dk_16 57 (dk_at dksX13_next_4 17 rfl rfl)
theorem dX13_next_111 : decode cX13_next 111 = .ok (.invokevirtual 34, 3) := dk_182 0 34 (dk_at dksX13_next_4 19 rfl rfl)
theorem dX13_next_114 : decode cX13_next 114 = .ok (.ifCond .eq 37, 3) := dk_153 0 37 (dk_at dksX13_next_5 0 rfl rfl)
theorem dX13_next_117 : decode cX13_next 117 = .ok (.aload_n 0, 1) := dk_42 (dk_at dksX13_next_5 3 rfl rfl)
theorem dX13_next_118 : decode cX13_next 118 = .ok (.dup, 1) := dk_89 (dk_at dksX13_next_5 4 rfl rfl)
theorem dX13_next_119 : decode cX13_next 119 = .ok (.getfield 28, 3) := dk_180 0 28 (dk_at dksX13_next_5 5 rfl rfl)
theorem dX13_next_122 : decode cX13_next 122 = .ok (.iconst 1, 1) := dk_4 (dk_at dksX13_next_5 8 rfl rfl)
theorem dX13_next_123 : decode cX13_next 123 = .ok (.iadd, 1) := dk_96 (dk_at dksX13_next_5 9 rfl rfl)
theorem dX13_next_124 : decode cX13_next 124 = .ok (.putfield 28, 3) := dk_181 0 28 (dk_at dksX13_next_5 10 rfl rfl)
theorem dX13_next_127 : decode cX13_next 127 = .ok (.goto (-25), 3) := dk_167 255 231 (dk_at dksX13_next_5 13 rfl rfl)
theorem dX13_next_130 : decode cX13_next 130 = .ok (.aload_n 0, 1) := dk_42 (dk_at dksX13_next_5 16 rfl rfl)
theorem dX13_next_131 : decode cX13_next 131 = .ok (.getfield 31, 3) := dk_180 0 31 (dk_at dksX13_next_5 17 rfl rfl)
theorem dX13_next_134 : decode cX13_next 134 = .ok (.aload_n 0, 1) := dk_42 (dk_at dksX13_next_5 20 rfl rfl)
theorem dX13_next_135 : decode cX13_next 135 = .ok (.getfield 24, 3) := dk_180 0 24 (dk_at dksX13_next_5 21 rfl rfl)
theorem dX13_next_138 : decode cX13_next 138 = .ok (.if_icmp .ge 13, 3) := dk_162 0 13 (dk_at dksX13_next_6 0 rfl rfl)
theorem dX13_next_141 : decode cX13_next 141 = .ok (.aload_n 0, 1) := dk_42 (dk_at dksX13_next_6 3 rfl rfl)
theorem dX13_next_142 : decode cX13_next 142 = .ok (.dup, 1) := dk_89 (dk_at dksX13_next_6 4 rfl rfl)
theorem dX13_next_143 : decode cX13_next 143 = .ok (.getfield 28, 3) := dk_180 0 28 (dk_at dksX13_next_6 5 rfl rfl)
theorem dX13_next_146 : decode cX13_next 146 = .ok (.iconst 1, 1) := dk_4 (dk_at dksX13_next_6 8 rfl rfl)
theorem dX13_next_147 : decode cX13_next 147 = .ok (.iadd, 1) := dk_96 (dk_at dksX13_next_6 9 rfl rfl)
theorem dX13_next_148 : decode cX13_next 148 = .ok (.putfield 28, 3) := dk_181 0 28 (dk_at dksX13_next_6 10 rfl rfl)
theorem dX13_next_151 : decode cX13_next 151 = .ok (.return_, 1) := dk_177 (dk_at dksX13_next_6 13 rfl rfl)
def dkwX13_isIn_1 : List UInt8 := [29, 163, 0, 7, 4, 167, 0, 4, 3, 172]
abbrev dktX13_isIn_1 : List UInt8 := dkwX13_isIn_1 ++ []
def dkwX13_isIn_0 : List UInt8 := [27, 42, 180, 0, 24, 162, 0, 27, 42, 180, 0, 20, 27, 51, 28, 161, 0, 17, 42, 180, 0, 20, 27, 51]
abbrev dktX13_isIn_0 : List UInt8 := dkwX13_isIn_0 ++ dktX13_isIn_1
theorem dksX13_isIn_0 : cX13_isIn.data.toList.drop 0 = dktX13_isIn_0 := by decide +kernel
theorem dksX13_isIn_1 : cX13_isIn.data.toList.drop 24 = dktX13_isIn_1 := dk_seg dksX13_isIn_0 24 rfl rfl
theorem dX13_isIn_0 : decode cX13_isIn 0 = .ok (.iload_n 1, 1) := dk_27 (dk_at dksX13_isIn_0 0 rfl rfl)
theorem dX13_isIn_1 : decode cX13_isIn 1 = .ok (.aload_n 0, 1) := dk_42 (dk_at dksX13_isIn_0 1 rfl rfl)
theorem dX13_isIn_2 : decode cX13_isIn 2 = .ok (.getfield 24, 3) := dk_180 0 24 (dk_at dksX13_isIn_0 2 rfl rfl)
theorem dX13_isIn_5 : decode cX13_isIn 5 = .ok (.if_icmp .ge 27, 3) := dk_162 0 27 (dk_at dksX13_isIn_0 5 rfl rfl)
theorem dX13_isIn_8 : decode cX13_isIn 8 = .ok (.aload_n 0, 1) := dk_42 (dk_at dksX13_isIn_0 8 rfl rfl)
theorem dX13_isIn_9 : decode cX13_isIn 9 = .ok (.getfield 20, 3) := dk_180 0 20 (dk_at dksX13_isIn_0 9 rfl rfl)
theorem dX13_isIn_12 : decode cX13_isIn 12 = .ok (.iload_n 1, 1) := dk_27 (dk_at dksX13_isIn_0 12 rfl rfl)
theorem dX13_isIn_13 : decode cX13_isIn 13 = .ok (.baload, 1) := dk_51 (dk_at dksX13_isIn_0 13 rfl rfl)
theorem dX13_isIn_14 : decode cX13_isIn 14 = .ok (.iload_n 2, 1) := dk_28 (dk_at dksX13_isIn_0 14 rfl rfl)
theorem dX13_isIn_15 : decode cX13_isIn 15 = .ok (.if_icmp .lt 17, 3) := dk_161 0 17 (dk_at dksX13_isIn_0 15 rfl rfl)
theorem dX13_isIn_18 : decode cX13_isIn 18 = .ok (.aload_n 0, 1) := dk_42 (dk_at dksX13_isIn_0 18 rfl rfl)
theorem dX13_isIn_19 : decode cX13_isIn 19 = .ok (.getfield 20, 3) := dk_180 0 20 (dk_at dksX13_isIn_0 19 rfl rfl)
theorem dX13_isIn_22 : decode cX13_isIn 22 = .ok (.iload_n 1, 1) := dk_27 (dk_at dksX13_isIn_0 22 rfl rfl)
theorem dX13_isIn_23 : decode cX13_isIn 23 = .ok (.baload, 1) := dk_51 (dk_at dksX13_isIn_0 23 rfl rfl)
theorem dX13_isIn_24 : decode cX13_isIn 24 = .ok (.iload_n 3, 1) := dk_29 (dk_at dksX13_isIn_1 0 rfl rfl)
theorem dX13_isIn_25 : decode cX13_isIn 25 = .ok (.if_icmp .gt 7, 3) := dk_163 0 7 (dk_at dksX13_isIn_1 1 rfl rfl)
theorem dX13_isIn_28 : decode cX13_isIn 28 = .ok (.iconst 1, 1) := dk_4 (dk_at dksX13_isIn_1 4 rfl rfl)
theorem dX13_isIn_29 : decode cX13_isIn 29 = .ok (.goto 4, 3) := dk_167 0 4 (dk_at dksX13_isIn_1 5 rfl rfl)
theorem dX13_isIn_32 : decode cX13_isIn 32 = .ok (.iconst 0, 1) := dk_3 (dk_at dksX13_isIn_1 8 rfl rfl)
theorem dX13_isIn_33 : decode cX13_isIn 33 = .ok (.ireturn, 1) := dk_172 (dk_at dksX13_isIn_1 9 rfl rfl)
def dkwX13_clause_4 : List UInt8 := [180, 0, 14, 43, 182, 0, 84, 87, 177]
abbrev dktX13_clause_4 : List UInt8 := dkwX13_clause_4 ++ []
def dkwX13_clause_3 : List UInt8 := [42, 182, 0, 88, 76, 42, 18, 92, 182, 0, 55, 153, 0, 11, 43, 42, 182, 0, 94, 181, 0, 98, 42]
abbrev dktX13_clause_3 : List UInt8 := dkwX13_clause_3 ++ dktX13_clause_4
def dkwX13_clause_2 : List UInt8 := [180, 0, 14, 187, 0, 79, 89, 3, 27, 42, 3, 16, 11, 182, 0, 70, 183, 0, 81, 182, 0, 84, 87, 177]
abbrev dktX13_clause_2 : List UInt8 := dkwX13_clause_2 ++ dktX13_clause_3
def dkwX13_clause_1 : List UInt8 := [42, 18, 68, 182, 0, 55, 153, 0, 42, 42, 3, 16, 19, 182, 0, 70, 60, 42, 18, 74, 182, 0, 75, 42]
abbrev dktX13_clause_1 : List UInt8 := dkwX13_clause_1 ++ dktX13_clause_2
def dkwX13_clause_0 : List UInt8 := [42, 180, 0, 14, 182, 0, 66, 16, 12, 160, 0, 15, 187, 0, 58, 89, 42, 180, 0, 31, 183, 0, 60, 191]
abbrev dktX13_clause_0 : List UInt8 := dkwX13_clause_0 ++ dktX13_clause_1
theorem dksX13_clause_0 : cX13_clause.data.toList.drop 0 = dktX13_clause_0 := by decide +kernel
theorem dksX13_clause_1 : cX13_clause.data.toList.drop 24 = dktX13_clause_1 := dk_seg dksX13_clause_0 24 rfl rfl
theorem dksX13_clause_2 : cX13_clause.data.toList.drop 48 = dktX13_clause_2 := dk_seg dksX13_clause_1 24 rfl rfl
theorem dksX13_clause_3 : cX13_clause.data.toList.drop 72 = dktX13_clause_3 := dk_seg dksX13_clause_2 24 rfl rfl
theorem dksX13_clause_4 : cX13_clause.data.toList.drop 95 = dktX13_clause_4 := dk_seg dksX13_clause_3 23 rfl rfl
theorem dX13_clause_0 : decode cX13_clause 0 = .ok (.aload_n 0, 1) := dk_42 (dk_at dksX13_clause_0 0 rfl rfl)
theorem dX13_clause_1 : decode cX13_clause 1 = .ok (.getfield 14, 3) := dk_180 0 14 (dk_at dksX13_clause_0 1 rfl rfl)
theorem dX13_clause_4 : decode cX13_clause 4 = .ok (.invokevirtual 66, 3) := dk_182 0 66 (dk_at dksX13_clause_0 4 rfl rfl)
theorem dX13_clause_7 : decode cX13_clause 7 = .ok (.bipush 12, 2) := dk_16 12 (dk_at dksX13_clause_0 7 rfl rfl)
theorem dX13_clause_9 : decode cX13_clause 9 = .ok (.if_icmp .ne 15, 3) := dk_160 0 15 (dk_at dksX13_clause_0 9 rfl rfl)
theorem dX13_clause_12 : decode cX13_clause 12 = .ok (.new 58, 3) := dk_187 0 58 (dk_at dksX13_clause_0 12 rfl rfl)
theorem dX13_clause_15 : decode cX13_clause 15 = .ok (.dup, 1) := dk_89 (dk_at dksX13_clause_0 15 rfl rfl)
theorem dX13_clause_16 : decode cX13_clause 16 = .ok (.aload_n 0, 1) := dk_42 (dk_at dksX13_clause_0 16 rfl rfl)
theorem dX13_clause_17 : decode cX13_clause 17 = .ok (.getfield 31, 3) := dk_180 0 31 (dk_at dksX13_clause_0 17 rfl rfl)
theorem dX13_clause_20 : decode cX13_clause 20 = .ok (.invokespecial 60, 3) := dk_183 0 60 (dk_at dksX13_clause_0 20 rfl rfl)
theorem dX13_clause_23 : decode cX13_clause 23 = .ok (.athrow, 1) := dk_191 (dk_at dksX13_clause_0 23 rfl rfl)
theorem dX13_clause_24 : decode cX13_clause 24 = .ok (.aload_n 0, 1) := dk_42 (dk_at dksX13_clause_1 0 rfl rfl)
theorem dX13_clause_25 : decode cX13_clause 25 = .ok (.ldc 68, 2) := dk_18 68 (dk_at dksX13_clause_1 1 rfl rfl)
theorem dX13_clause_27 : decode cX13_clause 27 = .ok (.invokevirtual 55, 3) := dk_182 0 55 (dk_at dksX13_clause_1 3 rfl rfl)
theorem dX13_clause_30 : decode cX13_clause 30 = .ok (.ifCond .eq 42, 3) := dk_153 0 42 (dk_at dksX13_clause_1 6 rfl rfl)
theorem dX13_clause_33 : decode cX13_clause 33 = .ok (.aload_n 0, 1) := dk_42 (dk_at dksX13_clause_1 9 rfl rfl)
theorem dX13_clause_34 : decode cX13_clause 34 = .ok (.iconst 0, 1) := dk_3 (dk_at dksX13_clause_1 10 rfl rfl)
theorem dX13_clause_35 : decode cX13_clause 35 = .ok (.bipush 19, 2) := dk_16 19 (dk_at dksX13_clause_1 11 rfl rfl)
theorem dX13_clause_37 : decode cX13_clause 37 = .ok (.invokevirtual 70, 3) := dk_182 0 70 (dk_at dksX13_clause_1 13 rfl rfl)
theorem dX13_clause_40 : decode cX13_clause 40 = .ok (.istore_n 1, 1) := dk_60 (dk_at dksX13_clause_1 16 rfl rfl)
theorem dX13_clause_41 : decode cX13_clause 41 = .ok (.aload_n 0, 1) := dk_42 (dk_at dksX13_clause_1 17 rfl rfl)
theorem dX13_clause_42 : decode cX13_clause 42 = .ok (.ldc 74, 2) := dk_18 74 (dk_at dksX13_clause_1 18 rfl rfl)
theorem dX13_clause_44 : decode cX13_clause 44 = .ok (.invokevirtual 75, 3) := dk_182 0 75 (dk_at dksX13_clause_1 20 rfl rfl)
theorem dX13_clause_47 : decode cX13_clause 47 = .ok (.aload_n 0, 1) := dk_42 (dk_at dksX13_clause_1 23 rfl rfl)
theorem dX13_clause_48 : decode cX13_clause 48 = .ok (.getfield 14, 3) := dk_180 0 14 (dk_at dksX13_clause_2 0 rfl rfl)
theorem dX13_clause_51 : decode cX13_clause 51 = .ok (.new 79, 3) := dk_187 0 79 (dk_at dksX13_clause_2 3 rfl rfl)
theorem dX13_clause_54 : decode cX13_clause 54 = .ok (.dup, 1) := dk_89 (dk_at dksX13_clause_2 6 rfl rfl)
theorem dX13_clause_55 : decode cX13_clause 55 = .ok (.iconst 0, 1) := dk_3 (dk_at dksX13_clause_2 7 rfl rfl)
theorem dX13_clause_56 : decode cX13_clause 56 = .ok (.iload_n 1, 1) := dk_27 (dk_at dksX13_clause_2 8 rfl rfl)
theorem dX13_clause_57 : decode cX13_clause 57 = .ok (.aload_n 0, 1) := dk_42 (dk_at dksX13_clause_2 9 rfl rfl)
theorem dX13_clause_58 : decode cX13_clause 58 = .ok (.iconst 0, 1) := dk_3 (dk_at dksX13_clause_2 10 rfl rfl)
theorem dX13_clause_59 : decode cX13_clause 59 = .ok (.bipush 11, 2) := dk_16 11 (dk_at dksX13_clause_2 11 rfl rfl)
theorem dX13_clause_61 : decode cX13_clause 61 = .ok (.invokevirtual 70, 3) := dk_182 0 70 (dk_at dksX13_clause_2 13 rfl rfl)
theorem dX13_clause_64 : decode cX13_clause 64 = .ok (.invokespecial 81, 3) := dk_183 0 81 (dk_at dksX13_clause_2 16 rfl rfl)
theorem dX13_clause_67 : decode cX13_clause 67 = .ok (.invokevirtual 84, 3) := dk_182 0 84 (dk_at dksX13_clause_2 19 rfl rfl)
theorem dX13_clause_70 : decode cX13_clause 70 = .ok (.pop, 1) := dk_87 (dk_at dksX13_clause_2 22 rfl rfl)
theorem dX13_clause_71 : decode cX13_clause 71 = .ok (.return_, 1) := dk_177 (dk_at dksX13_clause_2 23 rfl rfl)
theorem dX13_clause_72 : decode cX13_clause 72 = .ok (.aload_n 0, 1) := dk_42 (dk_at dksX13_clause_3 0 rfl rfl)
theorem dX13_clause_73 : decode cX13_clause 73 = .ok (.invokevirtual 88, 3) := dk_182 0 88 (dk_at dksX13_clause_3 1 rfl rfl)
theorem dX13_clause_76 : decode cX13_clause 76 = .ok (.astore_n 1, 1) := dk_76 (dk_at dksX13_clause_3 4 rfl rfl)
theorem dX13_clause_77 : decode cX13_clause 77 = .ok (.aload_n 0, 1) := dk_42 (dk_at dksX13_clause_3 5 rfl rfl)
theorem dX13_clause_78 : decode cX13_clause 78 = .ok (.ldc 92, 2) := dk_18 92 (dk_at dksX13_clause_3 6 rfl rfl)
theorem dX13_clause_80 : decode cX13_clause 80 = .ok (.invokevirtual 55, 3) := dk_182 0 55 (dk_at dksX13_clause_3 8 rfl rfl)
theorem dX13_clause_83 : decode cX13_clause 83 = .ok (.ifCond .eq 11, 3) := dk_153 0 11 (dk_at dksX13_clause_3 11 rfl rfl)
theorem dX13_clause_86 : decode cX13_clause 86 = .ok (.aload_n 1, 1) := dk_43 (dk_at dksX13_clause_3 14 rfl rfl)
theorem dX13_clause_87 : decode cX13_clause 87 = .ok (.aload_n 0, 1) := dk_42 (dk_at dksX13_clause_3 15 rfl rfl)
theorem dX13_clause_88 : decode cX13_clause 88 = .ok (.invokevirtual 94, 3) := dk_182 0 94 (dk_at dksX13_clause_3 16 rfl rfl)
theorem dX13_clause_91 : decode cX13_clause 91 = .ok (.putfield 98, 3) := dk_181 0 98 (dk_at dksX13_clause_3 19 rfl rfl)
theorem dX13_clause_94 : decode cX13_clause 94 = .ok (.aload_n 0, 1) := dk_42 (dk_at dksX13_clause_3 22 rfl rfl)
theorem dX13_clause_95 : decode cX13_clause 95 = .ok (.getfield 14, 3) := dk_180 0 14 (dk_at dksX13_clause_4 0 rfl rfl)
theorem dX13_clause_98 : decode cX13_clause 98 = .ok (.aload_n 1, 1) := dk_43 (dk_at dksX13_clause_4 3 rfl rfl)
theorem dX13_clause_99 : decode cX13_clause 99 = .ok (.invokevirtual 84, 3) := dk_182 0 84 (dk_at dksX13_clause_4 4 rfl rfl)
theorem dX13_clause_102 : decode cX13_clause 102 = .ok (.pop, 1) := dk_87 (dk_at dksX13_clause_4 7 rfl rfl)
theorem dX13_clause_103 : decode cX13_clause 103 = .ok (.return_, 1) := dk_177 (dk_at dksX13_clause_4 8 rfl rfl)
def dkwX13_takes_0 : List UInt8 := [42, 43, 182, 0, 48, 61, 28, 153, 0, 7, 42, 182, 0, 52, 28, 172]
abbrev dktX13_takes_0 : List UInt8 := dkwX13_takes_0 ++ []
theorem dksX13_takes_0 : cX13_takes.data.toList.drop 0 = dktX13_takes_0 := by decide +kernel
theorem dX13_takes_0 : decode cX13_takes 0 = .ok (.aload_n 0, 1) := dk_42 (dk_at dksX13_takes_0 0 rfl rfl)
theorem dX13_takes_1 : decode cX13_takes 1 = .ok (.aload_n 1, 1) := dk_43 (dk_at dksX13_takes_0 1 rfl rfl)
theorem dX13_takes_2 : decode cX13_takes 2 = .ok (.invokevirtual 48, 3) := dk_182 0 48 (dk_at dksX13_takes_0 2 rfl rfl)
theorem dX13_takes_5 : decode cX13_takes 5 = .ok (.istore_n 2, 1) := dk_61 (dk_at dksX13_takes_0 5 rfl rfl)
theorem dX13_takes_6 : decode cX13_takes 6 = .ok (.iload_n 2, 1) := dk_28 (dk_at dksX13_takes_0 6 rfl rfl)
theorem dX13_takes_7 : decode cX13_takes 7 = .ok (.ifCond .eq 7, 3) := dk_153 0 7 (dk_at dksX13_takes_0 7 rfl rfl)
theorem dX13_takes_10 : decode cX13_takes 10 = .ok (.aload_n 0, 1) := dk_42 (dk_at dksX13_takes_0 10 rfl rfl)
theorem dX13_takes_11 : decode cX13_takes 11 = .ok (.invokevirtual 52, 3) := dk_182 0 52 (dk_at dksX13_takes_0 11 rfl rfl)
theorem dX13_takes_14 : decode cX13_takes 14 = .ok (.iload_n 2, 1) := dk_28 (dk_at dksX13_takes_0 14 rfl rfl)
theorem dX13_takes_15 : decode cX13_takes 15 = .ok (.ireturn, 1) := dk_172 (dk_at dksX13_takes_0 15 rfl rfl)
def dkwX13_is_2 : List UInt8 := [159, 0, 5, 3, 172, 132, 2, 1, 167, 255, 224, 4, 172]
abbrev dktX13_is_2 : List UInt8 := dkwX13_is_2 ++ []
def dkwX13_is_1 : List UInt8 := [182, 0, 38, 162, 0, 30, 42, 180, 0, 20, 42, 180, 0, 31, 28, 96, 51, 43, 28, 182, 0, 44]
abbrev dktX13_is_1 : List UInt8 := dkwX13_is_1 ++ dktX13_is_2
def dkwX13_is_0 : List UInt8 := [42, 180, 0, 28, 42, 180, 0, 31, 100, 43, 182, 0, 38, 159, 0, 5, 3, 172, 3, 61, 28, 43]
abbrev dktX13_is_0 : List UInt8 := dkwX13_is_0 ++ dktX13_is_1
theorem dksX13_is_0 : cX13_is.data.toList.drop 0 = dktX13_is_0 := by decide +kernel
theorem dksX13_is_1 : cX13_is.data.toList.drop 22 = dktX13_is_1 := dk_seg dksX13_is_0 22 rfl rfl
theorem dksX13_is_2 : cX13_is.data.toList.drop 44 = dktX13_is_2 := dk_seg dksX13_is_1 22 rfl rfl
theorem dX13_is_0 : decode cX13_is 0 = .ok (.aload_n 0, 1) := dk_42 (dk_at dksX13_is_0 0 rfl rfl)
theorem dX13_is_1 : decode cX13_is 1 = .ok (.getfield 28, 3) := dk_180 0 28 (dk_at dksX13_is_0 1 rfl rfl)
theorem dX13_is_4 : decode cX13_is 4 = .ok (.aload_n 0, 1) := dk_42 (dk_at dksX13_is_0 4 rfl rfl)
theorem dX13_is_5 : decode cX13_is 5 = .ok (.getfield 31, 3) := dk_180 0 31 (dk_at dksX13_is_0 5 rfl rfl)
theorem dX13_is_8 : decode cX13_is 8 = .ok (.isub, 1) := dk_100 (dk_at dksX13_is_0 8 rfl rfl)
theorem dX13_is_9 : decode cX13_is 9 = .ok (.aload_n 1, 1) := dk_43 (dk_at dksX13_is_0 9 rfl rfl)
theorem dX13_is_10 : decode cX13_is 10 = .ok (.invokevirtual 38, 3) := dk_182 0 38 (dk_at dksX13_is_0 10 rfl rfl)
theorem dX13_is_13 : decode cX13_is 13 = .ok (.if_icmp .eq 5, 3) := dk_159 0 5 (dk_at dksX13_is_0 13 rfl rfl)
theorem dX13_is_16 : decode cX13_is 16 = .ok (.iconst 0, 1) := dk_3 (dk_at dksX13_is_0 16 rfl rfl)
theorem dX13_is_17 : decode cX13_is 17 = .ok (.ireturn, 1) := dk_172 (dk_at dksX13_is_0 17 rfl rfl)
theorem dX13_is_18 : decode cX13_is 18 = .ok (.iconst 0, 1) := dk_3 (dk_at dksX13_is_0 18 rfl rfl)
theorem dX13_is_19 : decode cX13_is 19 = .ok (.istore_n 2, 1) := dk_61 (dk_at dksX13_is_0 19 rfl rfl)
theorem dX13_is_20 : decode cX13_is 20 = .ok (.iload_n 2, 1) := dk_28 (dk_at dksX13_is_0 20 rfl rfl)
theorem dX13_is_21 : decode cX13_is 21 = .ok (.aload_n 1, 1) := dk_43 (dk_at dksX13_is_0 21 rfl rfl)
theorem dX13_is_22 : decode cX13_is 22 = .ok (.invokevirtual 38, 3) := dk_182 0 38 (dk_at dksX13_is_1 0 rfl rfl)
theorem dX13_is_25 : decode cX13_is 25 = .ok (.if_icmp .ge 30, 3) := dk_162 0 30 (dk_at dksX13_is_1 3 rfl rfl)
theorem dX13_is_28 : decode cX13_is 28 = .ok (.aload_n 0, 1) := dk_42 (dk_at dksX13_is_1 6 rfl rfl)
theorem dX13_is_29 : decode cX13_is 29 = .ok (.getfield 20, 3) := dk_180 0 20 (dk_at dksX13_is_1 7 rfl rfl)
theorem dX13_is_32 : decode cX13_is 32 = .ok (.aload_n 0, 1) := dk_42 (dk_at dksX13_is_1 10 rfl rfl)
theorem dX13_is_33 : decode cX13_is 33 = .ok (.getfield 31, 3) := dk_180 0 31 (dk_at dksX13_is_1 11 rfl rfl)
theorem dX13_is_36 : decode cX13_is 36 = .ok (.iload_n 2, 1) := dk_28 (dk_at dksX13_is_1 14 rfl rfl)
theorem dX13_is_37 : decode cX13_is 37 = .ok (.iadd, 1) := dk_96 (dk_at dksX13_is_1 15 rfl rfl)
theorem dX13_is_38 : decode cX13_is 38 = .ok (.baload, 1) := dk_51 (dk_at dksX13_is_1 16 rfl rfl)
theorem dX13_is_39 : decode cX13_is 39 = .ok (.aload_n 1, 1) := dk_43 (dk_at dksX13_is_1 17 rfl rfl)
theorem dX13_is_40 : decode cX13_is 40 = .ok (.iload_n 2, 1) := dk_28 (dk_at dksX13_is_1 18 rfl rfl)
theorem dX13_is_41 : decode cX13_is 41 = .ok (.invokevirtual 44, 3) := dk_182 0 44 (dk_at dksX13_is_1 19 rfl rfl)
theorem dX13_is_44 : decode cX13_is 44 = .ok (.if_icmp .eq 5, 3) := dk_159 0 5 (dk_at dksX13_is_2 0 rfl rfl)
theorem dX13_is_47 : decode cX13_is 47 = .ok (.iconst 0, 1) := dk_3 (dk_at dksX13_is_2 3 rfl rfl)
theorem dX13_is_48 : decode cX13_is 48 = .ok (.ireturn, 1) := dk_172 (dk_at dksX13_is_2 4 rfl rfl)
theorem dX13_is_49 : decode cX13_is 49 = .ok (.iinc 2 1, 3) := dk_132 2 1 (dk_at dksX13_is_2 5 rfl rfl)
theorem dX13_is_52 : decode cX13_is 52 = .ok (.goto (-32), 3) := dk_167 255 224 (dk_at dksX13_is_2 8 rfl rfl)
theorem dX13_is_55 : decode cX13_is 55 = .ok (.iconst 1, 1) := dk_4 (dk_at dksX13_is_2 11 rfl rfl)
theorem dX13_is_56 : decode cX13_is 56 = .ok (.ireturn, 1) := dk_172 (dk_at dksX13_is_2 12 rfl rfl)
def dkwX13_number_4 : List UInt8 := [191, 42, 182, 0, 52, 29, 172]
abbrev dktX13_number_4 : List UInt8 := dkwX13_number_4 ++ []
def dkwX13_number_3 : List UInt8 := [167, 255, 223, 29, 27, 161, 0, 8, 29, 28, 164, 0, 15, 187, 0, 58, 89, 42, 180, 0, 31, 183, 0, 60]
abbrev dktX13_number_3 : List UInt8 := dkwX13_number_3 ++ dktX13_number_4
def dkwX13_number_2 : List UInt8 := [163, 0, 25, 16, 10, 29, 104, 42, 180, 0, 20, 21, 4, 51, 96, 16, 48, 100, 62, 132, 4, 1]
abbrev dktX13_number_2 : List UInt8 := dkwX13_number_2 ++ dktX13_number_3
def dkwX13_number_1 : List UInt8 := [183, 0, 60, 191, 3, 62, 42, 180, 0, 31, 54, 4, 21, 4, 42, 180, 0, 28, 162, 0, 30, 29, 28]
abbrev dktX13_number_1 : List UInt8 := dkwX13_number_1 ++ dktX13_number_2
def dkwX13_number_0 : List UInt8 := [42, 42, 180, 0, 31, 16, 48, 16, 57, 182, 0, 34, 154, 0, 15, 187, 0, 58, 89, 42, 180, 0, 31]
abbrev dktX13_number_0 : List UInt8 := dkwX13_number_0 ++ dktX13_number_1
theorem dksX13_number_0 : cX13_number.data.toList.drop 0 = dktX13_number_0 := by decide +kernel
theorem dksX13_number_1 : cX13_number.data.toList.drop 23 = dktX13_number_1 := dk_seg dksX13_number_0 23 rfl rfl
theorem dksX13_number_2 : cX13_number.data.toList.drop 46 = dktX13_number_2 := dk_seg dksX13_number_1 23 rfl rfl
theorem dksX13_number_3 : cX13_number.data.toList.drop 68 = dktX13_number_3 := dk_seg dksX13_number_2 22 rfl rfl
theorem dksX13_number_4 : cX13_number.data.toList.drop 92 = dktX13_number_4 := dk_seg dksX13_number_3 24 rfl rfl
theorem dX13_number_0 : decode cX13_number 0 = .ok (.aload_n 0, 1) := dk_42 (dk_at dksX13_number_0 0 rfl rfl)
theorem dX13_number_1 : decode cX13_number 1 = .ok (.aload_n 0, 1) := dk_42 (dk_at dksX13_number_0 1 rfl rfl)
theorem dX13_number_2 : decode cX13_number 2 = .ok (.getfield 31, 3) := dk_180 0 31 (dk_at dksX13_number_0 2 rfl rfl)
theorem dX13_number_5 : decode cX13_number 5 = .ok (.bipush 48, 2) := dk_16 48 (dk_at dksX13_number_0 5 rfl rfl)
theorem dX13_number_7 : decode cX13_number 7 = .ok (.bipush 57, 2) := dk_16 57 (dk_at dksX13_number_0 7 rfl rfl)
theorem dX13_number_9 : decode cX13_number 9 = .ok (.invokevirtual 34, 3) := dk_182 0 34 (dk_at dksX13_number_0 9 rfl rfl)
theorem dX13_number_12 : decode cX13_number 12 = .ok (.ifCond .ne 15, 3) := dk_154 0 15 (dk_at dksX13_number_0 12 rfl rfl)
theorem dX13_number_15 : decode cX13_number 15 = .ok (.new 58, 3) := dk_187 0 58 (dk_at dksX13_number_0 15 rfl rfl)
theorem dX13_number_18 : decode cX13_number 18 = .ok (.dup, 1) := dk_89 (dk_at dksX13_number_0 18 rfl rfl)
theorem dX13_number_19 : decode cX13_number 19 = .ok (.aload_n 0, 1) := dk_42 (dk_at dksX13_number_0 19 rfl rfl)
theorem dX13_number_20 : decode cX13_number 20 = .ok (.getfield 31, 3) := dk_180 0 31 (dk_at dksX13_number_0 20 rfl rfl)
theorem dX13_number_23 : decode cX13_number 23 = .ok (.invokespecial 60, 3) := dk_183 0 60 (dk_at dksX13_number_1 0 rfl rfl)
theorem dX13_number_26 : decode cX13_number 26 = .ok (.athrow, 1) := dk_191 (dk_at dksX13_number_1 3 rfl rfl)
theorem dX13_number_27 : decode cX13_number 27 = .ok (.iconst 0, 1) := dk_3 (dk_at dksX13_number_1 4 rfl rfl)
theorem dX13_number_28 : decode cX13_number 28 = .ok (.istore_n 3, 1) := dk_62 (dk_at dksX13_number_1 5 rfl rfl)
theorem dX13_number_29 : decode cX13_number 29 = .ok (.aload_n 0, 1) := dk_42 (dk_at dksX13_number_1 6 rfl rfl)
theorem dX13_number_30 : decode cX13_number 30 = .ok (.getfield 31, 3) := dk_180 0 31 (dk_at dksX13_number_1 7 rfl rfl)
theorem dX13_number_33 : decode cX13_number 33 = .ok (.istore 4, 2) := dk_54 4 (dk_at dksX13_number_1 10 rfl rfl)
theorem dX13_number_35 : decode cX13_number 35 = .ok (.iload 4, 2) := dk_21 4 (dk_at dksX13_number_1 12 rfl rfl)
theorem dX13_number_37 : decode cX13_number 37 = .ok (.aload_n 0, 1) := dk_42 (dk_at dksX13_number_1 14 rfl rfl)
theorem dX13_number_38 : decode cX13_number 38 = .ok (.getfield 28, 3) := dk_180 0 28 (dk_at dksX13_number_1 15 rfl rfl)
theorem dX13_number_41 : decode cX13_number 41 = .ok (.if_icmp .ge 30, 3) := dk_162 0 30 (dk_at dksX13_number_1 18 rfl rfl)
theorem dX13_number_44 : decode cX13_number 44 = .ok (.iload_n 3, 1) := dk_29 (dk_at dksX13_number_1 21 rfl rfl)
theorem dX13_number_45 : decode cX13_number 45 = .ok (.iload_n 2, 1) := dk_28 (dk_at dksX13_number_1 22 rfl rfl)
theorem dX13_number_46 : decode cX13_number 46 = .ok (.if_icmp .gt 25, 3) := dk_163 0 25 (dk_at dksX13_number_2 0 rfl rfl)
theorem dX13_number_49 : decode cX13_number 49 = .ok (.bipush 10, 2) := dk_16 10 (dk_at dksX13_number_2 3 rfl rfl)
theorem dX13_number_51 : decode cX13_number 51 = .ok (.iload_n 3, 1) := dk_29 (dk_at dksX13_number_2 5 rfl rfl)
theorem dX13_number_52 : decode cX13_number 52 = .ok (.imul, 1) := dk_104 (dk_at dksX13_number_2 6 rfl rfl)
theorem dX13_number_53 : decode cX13_number 53 = .ok (.aload_n 0, 1) := dk_42 (dk_at dksX13_number_2 7 rfl rfl)
theorem dX13_number_54 : decode cX13_number 54 = .ok (.getfield 20, 3) := dk_180 0 20 (dk_at dksX13_number_2 8 rfl rfl)
theorem dX13_number_57 : decode cX13_number 57 = .ok (.iload 4, 2) := dk_21 4 (dk_at dksX13_number_2 11 rfl rfl)
theorem dX13_number_59 : decode cX13_number 59 = .ok (.baload, 1) := dk_51 (dk_at dksX13_number_2 13 rfl rfl)
theorem dX13_number_60 : decode cX13_number 60 = .ok (.iadd, 1) := dk_96 (dk_at dksX13_number_2 14 rfl rfl)
theorem dX13_number_61 : decode cX13_number 61 = .ok (.bipush 48, 2) := dk_16 48 (dk_at dksX13_number_2 15 rfl rfl)
theorem dX13_number_63 : decode cX13_number 63 = .ok (.isub, 1) := dk_100 (dk_at dksX13_number_2 17 rfl rfl)
theorem dX13_number_64 : decode cX13_number 64 = .ok (.istore_n 3, 1) := dk_62 (dk_at dksX13_number_2 18 rfl rfl)
theorem dX13_number_65 : decode cX13_number 65 = .ok (.iinc 4 1, 3) := dk_132 4 1 (dk_at dksX13_number_2 19 rfl rfl)
theorem dX13_number_68 : decode cX13_number 68 = .ok (.goto (-33), 3) := dk_167 255 223 (dk_at dksX13_number_3 0 rfl rfl)
theorem dX13_number_71 : decode cX13_number 71 = .ok (.iload_n 3, 1) := dk_29 (dk_at dksX13_number_3 3 rfl rfl)
theorem dX13_number_72 : decode cX13_number 72 = .ok (.iload_n 1, 1) := dk_27 (dk_at dksX13_number_3 4 rfl rfl)
theorem dX13_number_73 : decode cX13_number 73 = .ok (.if_icmp .lt 8, 3) := dk_161 0 8 (dk_at dksX13_number_3 5 rfl rfl)
theorem dX13_number_76 : decode cX13_number 76 = .ok (.iload_n 3, 1) := dk_29 (dk_at dksX13_number_3 8 rfl rfl)
theorem dX13_number_77 : decode cX13_number 77 = .ok (.iload_n 2, 1) := dk_28 (dk_at dksX13_number_3 9 rfl rfl)
theorem dX13_number_78 : decode cX13_number 78 = .ok (.if_icmp .le 15, 3) := dk_164 0 15 (dk_at dksX13_number_3 10 rfl rfl)
theorem dX13_number_81 : decode cX13_number 81 = .ok (.new 58, 3) := dk_187 0 58 (dk_at dksX13_number_3 13 rfl rfl)
theorem dX13_number_84 : decode cX13_number 84 = .ok (.dup, 1) := dk_89 (dk_at dksX13_number_3 16 rfl rfl)
theorem dX13_number_85 : decode cX13_number 85 = .ok (.aload_n 0, 1) := dk_42 (dk_at dksX13_number_3 17 rfl rfl)
theorem dX13_number_86 : decode cX13_number 86 = .ok (.getfield 31, 3) := dk_180 0 31 (dk_at dksX13_number_3 18 rfl rfl)
theorem dX13_number_89 : decode cX13_number 89 = .ok (.invokespecial 60, 3) := dk_183 0 60 (dk_at dksX13_number_3 21 rfl rfl)
theorem dX13_number_92 : decode cX13_number 92 = .ok (.athrow, 1) := dk_191 (dk_at dksX13_number_4 0 rfl rfl)
theorem dX13_number_93 : decode cX13_number 93 = .ok (.aload_n 0, 1) := dk_42 (dk_at dksX13_number_4 1 rfl rfl)
theorem dX13_number_94 : decode cX13_number 94 = .ok (.invokevirtual 52, 3) := dk_182 0 52 (dk_at dksX13_number_4 2 rfl rfl)
theorem dX13_number_97 : decode cX13_number 97 = .ok (.iload_n 3, 1) := dk_29 (dk_at dksX13_number_4 5 rfl rfl)
theorem dX13_number_98 : decode cX13_number 98 = .ok (.ireturn, 1) := dk_172 (dk_at dksX13_number_4 6 rfl rfl)
def dkwX13_need_0 : List UInt8 := [42, 43, 182, 0, 55, 154, 0, 15, 187, 0, 58, 89, 42, 180, 0, 31, 183, 0, 60, 191, 177]
abbrev dktX13_need_0 : List UInt8 := dkwX13_need_0 ++ []
theorem dksX13_need_0 : cX13_need.data.toList.drop 0 = dktX13_need_0 := by decide +kernel
theorem dX13_need_0 : decode cX13_need 0 = .ok (.aload_n 0, 1) := dk_42 (dk_at dksX13_need_0 0 rfl rfl)
theorem dX13_need_1 : decode cX13_need 1 = .ok (.aload_n 1, 1) := dk_43 (dk_at dksX13_need_0 1 rfl rfl)
theorem dX13_need_2 : decode cX13_need 2 = .ok (.invokevirtual 55, 3) := dk_182 0 55 (dk_at dksX13_need_0 2 rfl rfl)
theorem dX13_need_5 : decode cX13_need 5 = .ok (.ifCond .ne 15, 3) := dk_154 0 15 (dk_at dksX13_need_0 5 rfl rfl)
theorem dX13_need_8 : decode cX13_need 8 = .ok (.new 58, 3) := dk_187 0 58 (dk_at dksX13_need_0 8 rfl rfl)
theorem dX13_need_11 : decode cX13_need 11 = .ok (.dup, 1) := dk_89 (dk_at dksX13_need_0 11 rfl rfl)
theorem dX13_need_12 : decode cX13_need 12 = .ok (.aload_n 0, 1) := dk_42 (dk_at dksX13_need_0 12 rfl rfl)
theorem dX13_need_13 : decode cX13_need 13 = .ok (.getfield 31, 3) := dk_180 0 31 (dk_at dksX13_need_0 13 rfl rfl)
theorem dX13_need_16 : decode cX13_need 16 = .ok (.invokespecial 60, 3) := dk_183 0 60 (dk_at dksX13_need_0 16 rfl rfl)
theorem dX13_need_19 : decode cX13_need 19 = .ok (.athrow, 1) := dk_191 (dk_at dksX13_need_0 19 rfl rfl)
theorem dX13_need_20 : decode cX13_need 20 = .ok (.return_, 1) := dk_177 (dk_at dksX13_need_0 20 rfl rfl)
def dkwX13_head_6 : List UInt8 := [187, 0, 79, 89, 16, 7, 3, 3, 183, 0, 81, 76, 43, 42, 182, 0, 116, 181, 0, 120, 43, 176]
abbrev dktX13_head_6 : List UInt8 := dkwX13_head_6 ++ []
def dkwX13_head_5 : List UInt8 := [153, 0, 18, 187, 0, 79, 89, 16, 6, 3, 3, 183, 0, 81, 76, 167, 0, 21, 42, 18, 114, 182, 0, 75]
abbrev dktX13_head_5 : List UInt8 := dkwX13_head_5 ++ dktX13_head_6
def dkwX13_head_4 : List UInt8 := [153, 0, 17, 187, 0, 79, 89, 8, 3, 3, 183, 0, 81, 76, 167, 0, 45, 42, 18, 112, 182, 0, 55]
abbrev dktX13_head_4 : List UInt8 := dkwX13_head_4 ++ dktX13_head_5
def dkwX13_head_3 : List UInt8 := [187, 0, 79, 89, 6, 42, 3, 16, 9, 182, 0, 70, 3, 183, 0, 81, 176, 42, 18, 110, 182, 0, 55]
abbrev dktX13_head_3 : List UInt8 := dkwX13_head_3 ++ dktX13_head_4
def dkwX13_head_2 : List UInt8 := [153, 0, 14, 187, 0, 79, 89, 7, 3, 3, 183, 0, 81, 176, 42, 18, 108, 182, 0, 55, 153, 0, 20]
abbrev dktX13_head_2 : List UInt8 := dkwX13_head_2 ++ dktX13_head_3
def dkwX13_head_1 : List UInt8 := [182, 0, 55, 153, 0, 14, 187, 0, 79, 89, 5, 3, 3, 183, 0, 81, 176, 42, 18, 106, 182, 0, 55]
abbrev dktX13_head_1 : List UInt8 := dkwX13_head_1 ++ dktX13_head_2
def dkwX13_head_0 : List UInt8 := [42, 18, 102, 182, 0, 55, 153, 0, 14, 187, 0, 79, 89, 4, 3, 3, 183, 0, 81, 176, 42, 18, 104]
abbrev dktX13_head_0 : List UInt8 := dkwX13_head_0 ++ dktX13_head_1
theorem dksX13_head_0 : cX13_head.data.toList.drop 0 = dktX13_head_0 := by decide +kernel
theorem dksX13_head_1 : cX13_head.data.toList.drop 23 = dktX13_head_1 := dk_seg dksX13_head_0 23 rfl rfl
theorem dksX13_head_2 : cX13_head.data.toList.drop 46 = dktX13_head_2 := dk_seg dksX13_head_1 23 rfl rfl
theorem dksX13_head_3 : cX13_head.data.toList.drop 69 = dktX13_head_3 := dk_seg dksX13_head_2 23 rfl rfl
theorem dksX13_head_4 : cX13_head.data.toList.drop 92 = dktX13_head_4 := dk_seg dksX13_head_3 23 rfl rfl
theorem dksX13_head_5 : cX13_head.data.toList.drop 115 = dktX13_head_5 := dk_seg dksX13_head_4 23 rfl rfl
theorem dksX13_head_6 : cX13_head.data.toList.drop 139 = dktX13_head_6 := dk_seg dksX13_head_5 24 rfl rfl
theorem dX13_head_0 : decode cX13_head 0 = .ok (.aload_n 0, 1) := dk_42 (dk_at dksX13_head_0 0 rfl rfl)
theorem dX13_head_1 : decode cX13_head 1 = .ok (.ldc 102, 2) := dk_18 102 (dk_at dksX13_head_0 1 rfl rfl)
theorem dX13_head_3 : decode cX13_head 3 = .ok (.invokevirtual 55, 3) := dk_182 0 55 (dk_at dksX13_head_0 3 rfl rfl)
theorem dX13_head_6 : decode cX13_head 6 = .ok (.ifCond .eq 14, 3) := dk_153 0 14 (dk_at dksX13_head_0 6 rfl rfl)
theorem dX13_head_9 : decode cX13_head 9 = .ok (.new 79, 3) := dk_187 0 79 (dk_at dksX13_head_0 9 rfl rfl)
theorem dX13_head_12 : decode cX13_head 12 = .ok (.dup, 1) := dk_89 (dk_at dksX13_head_0 12 rfl rfl)
theorem dX13_head_13 : decode cX13_head 13 = .ok (.iconst 1, 1) := dk_4 (dk_at dksX13_head_0 13 rfl rfl)
theorem dX13_head_14 : decode cX13_head 14 = .ok (.iconst 0, 1) := dk_3 (dk_at dksX13_head_0 14 rfl rfl)
theorem dX13_head_15 : decode cX13_head 15 = .ok (.iconst 0, 1) := dk_3 (dk_at dksX13_head_0 15 rfl rfl)
theorem dX13_head_16 : decode cX13_head 16 = .ok (.invokespecial 81, 3) := dk_183 0 81 (dk_at dksX13_head_0 16 rfl rfl)
theorem dX13_head_19 : decode cX13_head 19 = .ok (.areturn, 1) := dk_176 (dk_at dksX13_head_0 19 rfl rfl)
theorem dX13_head_20 : decode cX13_head 20 = .ok (.aload_n 0, 1) := dk_42 (dk_at dksX13_head_0 20 rfl rfl)
theorem dX13_head_21 : decode cX13_head 21 = .ok (.ldc 104, 2) := dk_18 104 (dk_at dksX13_head_0 21 rfl rfl)
theorem dX13_head_23 : decode cX13_head 23 = .ok (.invokevirtual 55, 3) := dk_182 0 55 (dk_at dksX13_head_1 0 rfl rfl)
theorem dX13_head_26 : decode cX13_head 26 = .ok (.ifCond .eq 14, 3) := dk_153 0 14 (dk_at dksX13_head_1 3 rfl rfl)
theorem dX13_head_29 : decode cX13_head 29 = .ok (.new 79, 3) := dk_187 0 79 (dk_at dksX13_head_1 6 rfl rfl)
theorem dX13_head_32 : decode cX13_head 32 = .ok (.dup, 1) := dk_89 (dk_at dksX13_head_1 9 rfl rfl)
theorem dX13_head_33 : decode cX13_head 33 = .ok (.iconst 2, 1) := dk_5 (dk_at dksX13_head_1 10 rfl rfl)
theorem dX13_head_34 : decode cX13_head 34 = .ok (.iconst 0, 1) := dk_3 (dk_at dksX13_head_1 11 rfl rfl)
theorem dX13_head_35 : decode cX13_head 35 = .ok (.iconst 0, 1) := dk_3 (dk_at dksX13_head_1 12 rfl rfl)
theorem dX13_head_36 : decode cX13_head 36 = .ok (.invokespecial 81, 3) := dk_183 0 81 (dk_at dksX13_head_1 13 rfl rfl)
theorem dX13_head_39 : decode cX13_head 39 = .ok (.areturn, 1) := dk_176 (dk_at dksX13_head_1 16 rfl rfl)
theorem dX13_head_40 : decode cX13_head 40 = .ok (.aload_n 0, 1) := dk_42 (dk_at dksX13_head_1 17 rfl rfl)
theorem dX13_head_41 : decode cX13_head 41 = .ok (.ldc 106, 2) := dk_18 106 (dk_at dksX13_head_1 18 rfl rfl)
theorem dX13_head_43 : decode cX13_head 43 = .ok (.invokevirtual 55, 3) := dk_182 0 55 (dk_at dksX13_head_1 20 rfl rfl)
theorem dX13_head_46 : decode cX13_head 46 = .ok (.ifCond .eq 14, 3) := dk_153 0 14 (dk_at dksX13_head_2 0 rfl rfl)
theorem dX13_head_49 : decode cX13_head 49 = .ok (.new 79, 3) := dk_187 0 79 (dk_at dksX13_head_2 3 rfl rfl)
theorem dX13_head_52 : decode cX13_head 52 = .ok (.dup, 1) := dk_89 (dk_at dksX13_head_2 6 rfl rfl)
theorem dX13_head_53 : decode cX13_head 53 = .ok (.iconst 4, 1) := dk_7 (dk_at dksX13_head_2 7 rfl rfl)
theorem dX13_head_54 : decode cX13_head 54 = .ok (.iconst 0, 1) := dk_3 (dk_at dksX13_head_2 8 rfl rfl)
theorem dX13_head_55 : decode cX13_head 55 = .ok (.iconst 0, 1) := dk_3 (dk_at dksX13_head_2 9 rfl rfl)
theorem dX13_head_56 : decode cX13_head 56 = .ok (.invokespecial 81, 3) := dk_183 0 81 (dk_at dksX13_head_2 10 rfl rfl)
theorem dX13_head_59 : decode cX13_head 59 = .ok (.areturn, 1) := dk_176 (dk_at dksX13_head_2 13 rfl rfl)
theorem dX13_head_60 : decode cX13_head 60 = .ok (.aload_n 0, 1) := dk_42 (dk_at dksX13_head_2 14 rfl rfl)
theorem dX13_head_61 : decode cX13_head 61 = .ok (.ldc 108, 2) := dk_18 108 (dk_at dksX13_head_2 15 rfl rfl)
theorem dX13_head_63 : decode cX13_head 63 = .ok (.invokevirtual 55, 3) := dk_182 0 55 (dk_at dksX13_head_2 17 rfl rfl)
theorem dX13_head_66 : decode cX13_head 66 = .ok (.ifCond .eq 20, 3) := dk_153 0 20 (dk_at dksX13_head_2 20 rfl rfl)
theorem dX13_head_69 : decode cX13_head 69 = .ok (.new 79, 3) := dk_187 0 79 (dk_at dksX13_head_3 0 rfl rfl)
theorem dX13_head_72 : decode cX13_head 72 = .ok (.dup, 1) := dk_89 (dk_at dksX13_head_3 3 rfl rfl)
theorem dX13_head_73 : decode cX13_head 73 = .ok (.iconst 3, 1) := dk_6 (dk_at dksX13_head_3 4 rfl rfl)
theorem dX13_head_74 : decode cX13_head 74 = .ok (.aload_n 0, 1) := dk_42 (dk_at dksX13_head_3 5 rfl rfl)
theorem dX13_head_75 : decode cX13_head 75 = .ok (.iconst 0, 1) := dk_3 (dk_at dksX13_head_3 6 rfl rfl)
theorem dX13_head_76 : decode cX13_head 76 = .ok (.bipush 9, 2) := dk_16 9 (dk_at dksX13_head_3 7 rfl rfl)
theorem dX13_head_78 : decode cX13_head 78 = .ok (.invokevirtual 70, 3) := dk_182 0 70 (dk_at dksX13_head_3 9 rfl rfl)
theorem dX13_head_81 : decode cX13_head 81 = .ok (.iconst 0, 1) := dk_3 (dk_at dksX13_head_3 12 rfl rfl)
theorem dX13_head_82 : decode cX13_head 82 = .ok (.invokespecial 81, 3) := dk_183 0 81 (dk_at dksX13_head_3 13 rfl rfl)
theorem dX13_head_85 : decode cX13_head 85 = .ok (.areturn, 1) := dk_176 (dk_at dksX13_head_3 16 rfl rfl)
theorem dX13_head_86 : decode cX13_head 86 = .ok (.aload_n 0, 1) := dk_42 (dk_at dksX13_head_3 17 rfl rfl)
theorem dX13_head_87 : decode cX13_head 87 = .ok (.ldc 110, 2) := dk_18 110 (dk_at dksX13_head_3 18 rfl rfl)
theorem dX13_head_89 : decode cX13_head 89 = .ok (.invokevirtual 55, 3) := dk_182 0 55 (dk_at dksX13_head_3 20 rfl rfl)
theorem dX13_head_92 : decode cX13_head 92 = .ok (.ifCond .eq 17, 3) := dk_153 0 17 (dk_at dksX13_head_4 0 rfl rfl)
theorem dX13_head_95 : decode cX13_head 95 = .ok (.new 79, 3) := dk_187 0 79 (dk_at dksX13_head_4 3 rfl rfl)
theorem dX13_head_98 : decode cX13_head 98 = .ok (.dup, 1) := dk_89 (dk_at dksX13_head_4 6 rfl rfl)
theorem dX13_head_99 : decode cX13_head 99 = .ok (.iconst 5, 1) := dk_8 (dk_at dksX13_head_4 7 rfl rfl)
theorem dX13_head_100 : decode cX13_head 100 = .ok (.iconst 0, 1) := dk_3 (dk_at dksX13_head_4 8 rfl rfl)
theorem dX13_head_101 : decode cX13_head 101 = .ok (.iconst 0, 1) := dk_3 (dk_at dksX13_head_4 9 rfl rfl)
theorem dX13_head_102 : decode cX13_head 102 = .ok (.invokespecial 81, 3) := dk_183 0 81 (dk_at dksX13_head_4 10 rfl rfl)
theorem dX13_head_105 : decode cX13_head 105 = .ok (.astore_n 1, 1) := dk_76 (dk_at dksX13_head_4 13 rfl rfl)
theorem dX13_head_106 : decode cX13_head 106 = .ok (.goto 45, 3) := dk_167 0 45 (dk_at dksX13_head_4 14 rfl rfl)
theorem dX13_head_109 : decode cX13_head 109 = .ok (.aload_n 0, 1) := dk_42 (dk_at dksX13_head_4 17 rfl rfl)
theorem dX13_head_110 : decode cX13_head 110 = .ok (.ldc 112, 2) := dk_18 112 (dk_at dksX13_head_4 18 rfl rfl)
theorem dX13_head_112 : decode cX13_head 112 = .ok (.invokevirtual 55, 3) := dk_182 0 55 (dk_at dksX13_head_4 20 rfl rfl)
theorem dX13_head_115 : decode cX13_head 115 = .ok (.ifCond .eq 18, 3) := dk_153 0 18 (dk_at dksX13_head_5 0 rfl rfl)
theorem dX13_head_118 : decode cX13_head 118 = .ok (.new 79, 3) := dk_187 0 79 (dk_at dksX13_head_5 3 rfl rfl)
theorem dX13_head_121 : decode cX13_head 121 = .ok (.dup, 1) := dk_89 (dk_at dksX13_head_5 6 rfl rfl)
theorem dX13_head_122 : decode cX13_head 122 = .ok (.bipush 6, 2) := dk_16 6 (dk_at dksX13_head_5 7 rfl rfl)
theorem dX13_head_124 : decode cX13_head 124 = .ok (.iconst 0, 1) := dk_3 (dk_at dksX13_head_5 9 rfl rfl)
theorem dX13_head_125 : decode cX13_head 125 = .ok (.iconst 0, 1) := dk_3 (dk_at dksX13_head_5 10 rfl rfl)
theorem dX13_head_126 : decode cX13_head 126 = .ok (.invokespecial 81, 3) := dk_183 0 81 (dk_at dksX13_head_5 11 rfl rfl)
theorem dX13_head_129 : decode cX13_head 129 = .ok (.astore_n 1, 1) := dk_76 (dk_at dksX13_head_5 14 rfl rfl)
theorem dX13_head_130 : decode cX13_head 130 = .ok (.goto 21, 3) := dk_167 0 21 (dk_at dksX13_head_5 15 rfl rfl)
theorem dX13_head_133 : decode cX13_head 133 = .ok (.aload_n 0, 1) := dk_42 (dk_at dksX13_head_5 18 rfl rfl)
theorem dX13_head_134 : decode cX13_head 134 = .ok (.ldc 114, 2) := dk_18 114 (dk_at dksX13_head_5 19 rfl rfl)
theorem dX13_head_136 : decode cX13_head 136 = .ok (.invokevirtual 75, 3) := dk_182 0 75 (dk_at dksX13_head_5 21 rfl rfl)
theorem dX13_head_139 : decode cX13_head 139 = .ok (.new 79, 3) := dk_187 0 79 (dk_at dksX13_head_6 0 rfl rfl)
theorem dX13_head_142 : decode cX13_head 142 = .ok (.dup, 1) := dk_89 (dk_at dksX13_head_6 3 rfl rfl)
theorem dX13_head_143 : decode cX13_head 143 = .ok (.bipush 7, 2) := dk_16 7 (dk_at dksX13_head_6 4 rfl rfl)
theorem dX13_head_145 : decode cX13_head 145 = .ok (.iconst 0, 1) := dk_3 (dk_at dksX13_head_6 6 rfl rfl)
theorem dX13_head_146 : decode cX13_head 146 = .ok (.iconst 0, 1) := dk_3 (dk_at dksX13_head_6 7 rfl rfl)
theorem dX13_head_147 : decode cX13_head 147 = .ok (.invokespecial 81, 3) := dk_183 0 81 (dk_at dksX13_head_6 8 rfl rfl)
theorem dX13_head_150 : decode cX13_head 150 = .ok (.astore_n 1, 1) := dk_76 (dk_at dksX13_head_6 11 rfl rfl)
theorem dX13_head_151 : decode cX13_head 151 = .ok (.aload_n 1, 1) := dk_43 (dk_at dksX13_head_6 12 rfl rfl)
theorem dX13_head_152 : decode cX13_head 152 = .ok (.aload_n 0, 1) := dk_42 (dk_at dksX13_head_6 13 rfl rfl)
theorem dX13_head_153 : decode cX13_head 153 = .ok (.invokevirtual 116, 3) := dk_182 0 116 (dk_at dksX13_head_6 14 rfl rfl)
theorem dX13_head_156 : decode cX13_head 156 = .ok (.putfield 120, 3) := dk_181 0 120 (dk_at dksX13_head_6 17 rfl rfl)
theorem dX13_head_159 : decode cX13_head 159 = .ok (.aload_n 1, 1) := dk_43 (dk_at dksX13_head_6 20 rfl rfl)
theorem dX13_head_160 : decode cX13_head 160 = .ok (.areturn, 1) := dk_176 (dk_at dksX13_head_6 21 rfl rfl)
def dkwX13_sum_2 : List UInt8 := [183, 0, 200, 76, 167, 255, 209, 43, 176]
abbrev dktX13_sum_2 : List UInt8 := dkwX13_sum_2 ++ []
def dkwX13_sum_1 : List UInt8 := [180, 0, 20, 42, 180, 0, 31, 51, 146, 61, 42, 182, 0, 52, 187, 0, 198, 89, 28, 43, 42, 182, 0, 191]
abbrev dktX13_sum_1 : List UInt8 := dkwX13_sum_1 ++ dktX13_sum_2
def dkwX13_sum_0 : List UInt8 := [42, 182, 0, 191, 76, 42, 18, 194, 182, 0, 48, 154, 0, 12, 42, 18, 196, 182, 0, 48, 153, 0, 35, 42]
abbrev dktX13_sum_0 : List UInt8 := dkwX13_sum_0 ++ dktX13_sum_1
theorem dksX13_sum_0 : cX13_sum.data.toList.drop 0 = dktX13_sum_0 := by decide +kernel
theorem dksX13_sum_1 : cX13_sum.data.toList.drop 24 = dktX13_sum_1 := dk_seg dksX13_sum_0 24 rfl rfl
theorem dksX13_sum_2 : cX13_sum.data.toList.drop 48 = dktX13_sum_2 := dk_seg dksX13_sum_1 24 rfl rfl
theorem dX13_sum_0 : decode cX13_sum 0 = .ok (.aload_n 0, 1) := dk_42 (dk_at dksX13_sum_0 0 rfl rfl)
theorem dX13_sum_1 : decode cX13_sum 1 = .ok (.invokevirtual 191, 3) := dk_182 0 191 (dk_at dksX13_sum_0 1 rfl rfl)
theorem dX13_sum_4 : decode cX13_sum 4 = .ok (.astore_n 1, 1) := dk_76 (dk_at dksX13_sum_0 4 rfl rfl)
theorem dX13_sum_5 : decode cX13_sum 5 = .ok (.aload_n 0, 1) := dk_42 (dk_at dksX13_sum_0 5 rfl rfl)
theorem dX13_sum_6 : decode cX13_sum 6 = .ok (.ldc 194, 2) := dk_18 194 (dk_at dksX13_sum_0 6 rfl rfl)
theorem dX13_sum_8 : decode cX13_sum 8 = .ok (.invokevirtual 48, 3) := dk_182 0 48 (dk_at dksX13_sum_0 8 rfl rfl)
theorem dX13_sum_11 : decode cX13_sum 11 = .ok (.ifCond .ne 12, 3) := dk_154 0 12 (dk_at dksX13_sum_0 11 rfl rfl)
theorem dX13_sum_14 : decode cX13_sum 14 = .ok (.aload_n 0, 1) := dk_42 (dk_at dksX13_sum_0 14 rfl rfl)
theorem dX13_sum_15 : decode cX13_sum 15 = .ok (.ldc 196, 2) := dk_18 196 (dk_at dksX13_sum_0 15 rfl rfl)
theorem dX13_sum_17 : decode cX13_sum 17 = .ok (.invokevirtual 48, 3) := dk_182 0 48 (dk_at dksX13_sum_0 17 rfl rfl)
theorem dX13_sum_20 : decode cX13_sum 20 = .ok (.ifCond .eq 35, 3) := dk_153 0 35 (dk_at dksX13_sum_0 20 rfl rfl)
theorem dX13_sum_23 : decode cX13_sum 23 = .ok (.aload_n 0, 1) := dk_42 (dk_at dksX13_sum_0 23 rfl rfl)
theorem dX13_sum_24 : decode cX13_sum 24 = .ok (.getfield 20, 3) := dk_180 0 20 (dk_at dksX13_sum_1 0 rfl rfl)
theorem dX13_sum_27 : decode cX13_sum 27 = .ok (.aload_n 0, 1) := dk_42 (dk_at dksX13_sum_1 3 rfl rfl)
theorem dX13_sum_28 : decode cX13_sum 28 = .ok (.getfield 31, 3) := dk_180 0 31 (dk_at dksX13_sum_1 4 rfl rfl)
theorem dX13_sum_31 : decode cX13_sum 31 = .ok (.baload, 1) := dk_51 (dk_at dksX13_sum_1 7 rfl rfl)
theorem dX13_sum_32 : decode cX13_sum 32 = .ok (.i2c, 1) := dk_146 (dk_at dksX13_sum_1 8 rfl rfl)
theorem dX13_sum_33 : decode cX13_sum 33 = .ok (.istore_n 2, 1) := dk_61 (dk_at dksX13_sum_1 9 rfl rfl)
theorem dX13_sum_34 : decode cX13_sum 34 = .ok (.aload_n 0, 1) := dk_42 (dk_at dksX13_sum_1 10 rfl rfl)
theorem dX13_sum_35 : decode cX13_sum 35 = .ok (.invokevirtual 52, 3) := dk_182 0 52 (dk_at dksX13_sum_1 11 rfl rfl)
theorem dX13_sum_38 : decode cX13_sum 38 = .ok (.new 198, 3) := dk_187 0 198 (dk_at dksX13_sum_1 14 rfl rfl)
theorem dX13_sum_41 : decode cX13_sum 41 = .ok (.dup, 1) := dk_89 (dk_at dksX13_sum_1 17 rfl rfl)
theorem dX13_sum_42 : decode cX13_sum 42 = .ok (.iload_n 2, 1) := dk_28 (dk_at dksX13_sum_1 18 rfl rfl)
theorem dX13_sum_43 : decode cX13_sum 43 = .ok (.aload_n 1, 1) := dk_43 (dk_at dksX13_sum_1 19 rfl rfl)
theorem dX13_sum_44 : decode cX13_sum 44 = .ok (.aload_n 0, 1) := dk_42 (dk_at dksX13_sum_1 20 rfl rfl)
theorem dX13_sum_45 : decode cX13_sum 45 = .ok (.invokevirtual 191, 3) := dk_182 0 191 (dk_at dksX13_sum_1 21 rfl rfl)
theorem dX13_sum_48 : decode cX13_sum 48 = .ok (.invokespecial 200, 3) := dk_183 0 200 (dk_at dksX13_sum_2 0 rfl rfl)
theorem dX13_sum_51 : decode cX13_sum 51 = .ok (.astore_n 1, 1) := dk_76 (dk_at dksX13_sum_2 3 rfl rfl)
theorem dX13_sum_52 : decode cX13_sum 52 = .ok (.goto (-47), 3) := dk_167 255 209 (dk_at dksX13_sum_2 4 rfl rfl)
theorem dX13_sum_55 : decode cX13_sum 55 = .ok (.aload_n 1, 1) := dk_43 (dk_at dksX13_sum_2 7 rfl rfl)
theorem dX13_sum_56 : decode cX13_sum 56 = .ok (.areturn, 1) := dk_176 (dk_at dksX13_sum_2 8 rfl rfl)
def dkwX13_term_2 : List UInt8 := [183, 0, 200, 76, 167, 255, 209, 43, 176]
abbrev dktX13_term_2 : List UInt8 := dkwX13_term_2 ++ []
def dkwX13_term_1 : List UInt8 := [180, 0, 20, 42, 180, 0, 31, 51, 146, 61, 42, 182, 0, 52, 187, 0, 198, 89, 28, 43, 42, 182, 0, 201]
abbrev dktX13_term_1 : List UInt8 := dkwX13_term_1 ++ dktX13_term_2
def dkwX13_term_0 : List UInt8 := [42, 182, 0, 201, 76, 42, 18, 204, 182, 0, 48, 154, 0, 12, 42, 18, 206, 182, 0, 48, 153, 0, 35, 42]
abbrev dktX13_term_0 : List UInt8 := dkwX13_term_0 ++ dktX13_term_1
theorem dksX13_term_0 : cX13_term.data.toList.drop 0 = dktX13_term_0 := by decide +kernel
theorem dksX13_term_1 : cX13_term.data.toList.drop 24 = dktX13_term_1 := dk_seg dksX13_term_0 24 rfl rfl
theorem dksX13_term_2 : cX13_term.data.toList.drop 48 = dktX13_term_2 := dk_seg dksX13_term_1 24 rfl rfl
theorem dX13_term_0 : decode cX13_term 0 = .ok (.aload_n 0, 1) := dk_42 (dk_at dksX13_term_0 0 rfl rfl)
theorem dX13_term_1 : decode cX13_term 1 = .ok (.invokevirtual 201, 3) := dk_182 0 201 (dk_at dksX13_term_0 1 rfl rfl)
theorem dX13_term_4 : decode cX13_term 4 = .ok (.astore_n 1, 1) := dk_76 (dk_at dksX13_term_0 4 rfl rfl)
theorem dX13_term_5 : decode cX13_term 5 = .ok (.aload_n 0, 1) := dk_42 (dk_at dksX13_term_0 5 rfl rfl)
theorem dX13_term_6 : decode cX13_term 6 = .ok (.ldc 204, 2) := dk_18 204 (dk_at dksX13_term_0 6 rfl rfl)
theorem dX13_term_8 : decode cX13_term 8 = .ok (.invokevirtual 48, 3) := dk_182 0 48 (dk_at dksX13_term_0 8 rfl rfl)
theorem dX13_term_11 : decode cX13_term 11 = .ok (.ifCond .ne 12, 3) := dk_154 0 12 (dk_at dksX13_term_0 11 rfl rfl)
theorem dX13_term_14 : decode cX13_term 14 = .ok (.aload_n 0, 1) := dk_42 (dk_at dksX13_term_0 14 rfl rfl)
theorem dX13_term_15 : decode cX13_term 15 = .ok (.ldc 206, 2) := dk_18 206 (dk_at dksX13_term_0 15 rfl rfl)
theorem dX13_term_17 : decode cX13_term 17 = .ok (.invokevirtual 48, 3) := dk_182 0 48 (dk_at dksX13_term_0 17 rfl rfl)
theorem dX13_term_20 : decode cX13_term 20 = .ok (.ifCond .eq 35, 3) := dk_153 0 35 (dk_at dksX13_term_0 20 rfl rfl)
theorem dX13_term_23 : decode cX13_term 23 = .ok (.aload_n 0, 1) := dk_42 (dk_at dksX13_term_0 23 rfl rfl)
theorem dX13_term_24 : decode cX13_term 24 = .ok (.getfield 20, 3) := dk_180 0 20 (dk_at dksX13_term_1 0 rfl rfl)
theorem dX13_term_27 : decode cX13_term 27 = .ok (.aload_n 0, 1) := dk_42 (dk_at dksX13_term_1 3 rfl rfl)
theorem dX13_term_28 : decode cX13_term 28 = .ok (.getfield 31, 3) := dk_180 0 31 (dk_at dksX13_term_1 4 rfl rfl)
theorem dX13_term_31 : decode cX13_term 31 = .ok (.baload, 1) := dk_51 (dk_at dksX13_term_1 7 rfl rfl)
theorem dX13_term_32 : decode cX13_term 32 = .ok (.i2c, 1) := dk_146 (dk_at dksX13_term_1 8 rfl rfl)
theorem dX13_term_33 : decode cX13_term 33 = .ok (.istore_n 2, 1) := dk_61 (dk_at dksX13_term_1 9 rfl rfl)
theorem dX13_term_34 : decode cX13_term 34 = .ok (.aload_n 0, 1) := dk_42 (dk_at dksX13_term_1 10 rfl rfl)
theorem dX13_term_35 : decode cX13_term 35 = .ok (.invokevirtual 52, 3) := dk_182 0 52 (dk_at dksX13_term_1 11 rfl rfl)
theorem dX13_term_38 : decode cX13_term 38 = .ok (.new 198, 3) := dk_187 0 198 (dk_at dksX13_term_1 14 rfl rfl)
theorem dX13_term_41 : decode cX13_term 41 = .ok (.dup, 1) := dk_89 (dk_at dksX13_term_1 17 rfl rfl)
theorem dX13_term_42 : decode cX13_term 42 = .ok (.iload_n 2, 1) := dk_28 (dk_at dksX13_term_1 18 rfl rfl)
theorem dX13_term_43 : decode cX13_term 43 = .ok (.aload_n 1, 1) := dk_43 (dk_at dksX13_term_1 19 rfl rfl)
theorem dX13_term_44 : decode cX13_term 44 = .ok (.aload_n 0, 1) := dk_42 (dk_at dksX13_term_1 20 rfl rfl)
theorem dX13_term_45 : decode cX13_term 45 = .ok (.invokevirtual 201, 3) := dk_182 0 201 (dk_at dksX13_term_1 21 rfl rfl)
theorem dX13_term_48 : decode cX13_term 48 = .ok (.invokespecial 200, 3) := dk_183 0 200 (dk_at dksX13_term_2 0 rfl rfl)
theorem dX13_term_51 : decode cX13_term 51 = .ok (.astore_n 1, 1) := dk_76 (dk_at dksX13_term_2 3 rfl rfl)
theorem dX13_term_52 : decode cX13_term 52 = .ok (.goto (-47), 3) := dk_167 255 209 (dk_at dksX13_term_2 4 rfl rfl)
theorem dX13_term_55 : decode cX13_term 55 = .ok (.aload_n 1, 1) := dk_43 (dk_at dksX13_term_2 7 rfl rfl)
theorem dX13_term_56 : decode cX13_term 56 = .ok (.areturn, 1) := dk_176 (dk_at dksX13_term_2 8 rfl rfl)
def dkwX13_part_4 : List UInt8 := [182, 0, 174, 42, 182, 0, 52, 187, 0, 244, 89, 27, 183, 0, 246, 176]
abbrev dktX13_part_4 : List UInt8 := dkwX13_part_4 ++ []
def dkwX13_part_3 : List UInt8 := [182, 0, 241, 60, 27, 2, 160, 0, 15, 187, 0, 58, 89, 42, 180, 0, 31, 183, 0, 60, 191, 42]
abbrev dktX13_part_3 : List UInt8 := dkwX13_part_3 ++ dktX13_part_4
def dkwX13_part_2 : List UInt8 := [153, 0, 22, 42, 182, 0, 174, 187, 0, 237, 89, 42, 3, 18, 239, 182, 0, 70, 183, 0, 240, 176, 42]
abbrev dktX13_part_2 : List UInt8 := dkwX13_part_2 ++ dktX13_part_3
def dkwX13_part_1 : List UInt8 := [42, 89, 180, 0, 141, 4, 100, 181, 0, 141, 43, 176, 42, 42, 180, 0, 31, 16, 48, 16, 57, 182, 0, 34]
abbrev dktX13_part_1 : List UInt8 := dkwX13_part_1 ++ dktX13_part_2
def dkwX13_part_0 : List UInt8 := [42, 18, 233, 182, 0, 48, 153, 0, 30, 42, 182, 0, 166, 42, 182, 0, 116, 76, 42, 18, 235, 182, 0, 75]
abbrev dktX13_part_0 : List UInt8 := dkwX13_part_0 ++ dktX13_part_1
theorem dksX13_part_0 : cX13_part.data.toList.drop 0 = dktX13_part_0 := by decide +kernel
theorem dksX13_part_1 : cX13_part.data.toList.drop 24 = dktX13_part_1 := dk_seg dksX13_part_0 24 rfl rfl
theorem dksX13_part_2 : cX13_part.data.toList.drop 48 = dktX13_part_2 := dk_seg dksX13_part_1 24 rfl rfl
theorem dksX13_part_3 : cX13_part.data.toList.drop 71 = dktX13_part_3 := dk_seg dksX13_part_2 23 rfl rfl
theorem dksX13_part_4 : cX13_part.data.toList.drop 93 = dktX13_part_4 := dk_seg dksX13_part_3 22 rfl rfl
theorem dX13_part_0 : decode cX13_part 0 = .ok (.aload_n 0, 1) := dk_42 (dk_at dksX13_part_0 0 rfl rfl)
theorem dX13_part_1 : decode cX13_part 1 = .ok (.ldc 233, 2) := dk_18 233 (dk_at dksX13_part_0 1 rfl rfl)
theorem dX13_part_3 : decode cX13_part 3 = .ok (.invokevirtual 48, 3) := dk_182 0 48 (dk_at dksX13_part_0 3 rfl rfl)
theorem dX13_part_6 : decode cX13_part 6 = .ok (.ifCond .eq 30, 3) := dk_153 0 30 (dk_at dksX13_part_0 6 rfl rfl)
theorem dX13_part_9 : decode cX13_part 9 = .ok (.aload_n 0, 1) := dk_42 (dk_at dksX13_part_0 9 rfl rfl)
theorem dX13_part_10 : decode cX13_part 10 = .ok (.invokevirtual 166, 3) := dk_182 0 166 (dk_at dksX13_part_0 10 rfl rfl)
theorem dX13_part_13 : decode cX13_part 13 = .ok (.aload_n 0, 1) := dk_42 (dk_at dksX13_part_0 13 rfl rfl)
theorem dX13_part_14 : decode cX13_part 14 = .ok (.invokevirtual 116, 3) := dk_182 0 116 (dk_at dksX13_part_0 14 rfl rfl)
theorem dX13_part_17 : decode cX13_part 17 = .ok (.astore_n 1, 1) := dk_76 (dk_at dksX13_part_0 17 rfl rfl)
theorem dX13_part_18 : decode cX13_part 18 = .ok (.aload_n 0, 1) := dk_42 (dk_at dksX13_part_0 18 rfl rfl)
theorem dX13_part_19 : decode cX13_part 19 = .ok (.ldc 235, 2) := dk_18 235 (dk_at dksX13_part_0 19 rfl rfl)
theorem dX13_part_21 : decode cX13_part 21 = .ok (.invokevirtual 75, 3) := dk_182 0 75 (dk_at dksX13_part_0 21 rfl rfl)
theorem dX13_part_24 : decode cX13_part 24 = .ok (.aload_n 0, 1) := dk_42 (dk_at dksX13_part_1 0 rfl rfl)
theorem dX13_part_25 : decode cX13_part 25 = .ok (.dup, 1) := dk_89 (dk_at dksX13_part_1 1 rfl rfl)
theorem dX13_part_26 : decode cX13_part 26 = .ok (.getfield 141, 3) := dk_180 0 141 (dk_at dksX13_part_1 2 rfl rfl)
theorem dX13_part_29 : decode cX13_part 29 = .ok (.iconst 1, 1) := dk_4 (dk_at dksX13_part_1 5 rfl rfl)
theorem dX13_part_30 : decode cX13_part 30 = .ok (.isub, 1) := dk_100 (dk_at dksX13_part_1 6 rfl rfl)
theorem dX13_part_31 : decode cX13_part 31 = .ok (.putfield 141, 3) := dk_181 0 141 (dk_at dksX13_part_1 7 rfl rfl)
theorem dX13_part_34 : decode cX13_part 34 = .ok (.aload_n 1, 1) := dk_43 (dk_at dksX13_part_1 10 rfl rfl)
theorem dX13_part_35 : decode cX13_part 35 = .ok (.areturn, 1) := dk_176 (dk_at dksX13_part_1 11 rfl rfl)
theorem dX13_part_36 : decode cX13_part 36 = .ok (.aload_n 0, 1) := dk_42 (dk_at dksX13_part_1 12 rfl rfl)
theorem dX13_part_37 : decode cX13_part 37 = .ok (.aload_n 0, 1) := dk_42 (dk_at dksX13_part_1 13 rfl rfl)
theorem dX13_part_38 : decode cX13_part 38 = .ok (.getfield 31, 3) := dk_180 0 31 (dk_at dksX13_part_1 14 rfl rfl)
theorem dX13_part_41 : decode cX13_part 41 = .ok (.bipush 48, 2) := dk_16 48 (dk_at dksX13_part_1 17 rfl rfl)
theorem dX13_part_43 : decode cX13_part 43 = .ok (.bipush 57, 2) := dk_16 57 (dk_at dksX13_part_1 19 rfl rfl)
theorem dX13_part_45 : decode cX13_part 45 = .ok (.invokevirtual 34, 3) := dk_182 0 34 (dk_at dksX13_part_1 21 rfl rfl)
theorem dX13_part_48 : decode cX13_part 48 = .ok (.ifCond .eq 22, 3) := dk_153 0 22 (dk_at dksX13_part_2 0 rfl rfl)
theorem dX13_part_51 : decode cX13_part 51 = .ok (.aload_n 0, 1) := dk_42 (dk_at dksX13_part_2 3 rfl rfl)
theorem dX13_part_52 : decode cX13_part 52 = .ok (.invokevirtual 174, 3) := dk_182 0 174 (dk_at dksX13_part_2 4 rfl rfl)
theorem dX13_part_55 : decode cX13_part 55 = .ok (.new 237, 3) := dk_187 0 237 (dk_at dksX13_part_2 7 rfl rfl)
theorem dX13_part_58 : decode cX13_part 58 = .ok (.dup, 1) := dk_89 (dk_at dksX13_part_2 10 rfl rfl)
theorem dX13_part_59 : decode cX13_part 59 = .ok (.aload_n 0, 1) := dk_42 (dk_at dksX13_part_2 11 rfl rfl)
theorem dX13_part_60 : decode cX13_part 60 = .ok (.iconst 0, 1) := dk_3 (dk_at dksX13_part_2 12 rfl rfl)
theorem dX13_part_61 : decode cX13_part 61 = .ok (.ldc 239, 2) := dk_18 239 (dk_at dksX13_part_2 13 rfl rfl)
theorem dX13_part_63 : decode cX13_part 63 = .ok (.invokevirtual 70, 3) := dk_182 0 70 (dk_at dksX13_part_2 15 rfl rfl)
theorem dX13_part_66 : decode cX13_part 66 = .ok (.invokespecial 240, 3) := dk_183 0 240 (dk_at dksX13_part_2 18 rfl rfl)
theorem dX13_part_69 : decode cX13_part 69 = .ok (.areturn, 1) := dk_176 (dk_at dksX13_part_2 21 rfl rfl)
theorem dX13_part_70 : decode cX13_part 70 = .ok (.aload_n 0, 1) := dk_42 (dk_at dksX13_part_2 22 rfl rfl)
theorem dX13_part_71 : decode cX13_part 71 = .ok (.invokevirtual 241, 3) := dk_182 0 241 (dk_at dksX13_part_3 0 rfl rfl)
theorem dX13_part_74 : decode cX13_part 74 = .ok (.istore_n 1, 1) := dk_60 (dk_at dksX13_part_3 3 rfl rfl)
theorem dX13_part_75 : decode cX13_part 75 = .ok (.iload_n 1, 1) := dk_27 (dk_at dksX13_part_3 4 rfl rfl)
theorem dX13_part_76 : decode cX13_part 76 = .ok (.iconst (-1), 1) := dk_2 (dk_at dksX13_part_3 5 rfl rfl)
theorem dX13_part_77 : decode cX13_part 77 = .ok (.if_icmp .ne 15, 3) := dk_160 0 15 (dk_at dksX13_part_3 6 rfl rfl)
theorem dX13_part_80 : decode cX13_part 80 = .ok (.new 58, 3) := dk_187 0 58 (dk_at dksX13_part_3 9 rfl rfl)
theorem dX13_part_83 : decode cX13_part 83 = .ok (.dup, 1) := dk_89 (dk_at dksX13_part_3 12 rfl rfl)
theorem dX13_part_84 : decode cX13_part 84 = .ok (.aload_n 0, 1) := dk_42 (dk_at dksX13_part_3 13 rfl rfl)
theorem dX13_part_85 : decode cX13_part 85 = .ok (.getfield 31, 3) := dk_180 0 31 (dk_at dksX13_part_3 14 rfl rfl)
theorem dX13_part_88 : decode cX13_part 88 = .ok (.invokespecial 60, 3) := dk_183 0 60 (dk_at dksX13_part_3 17 rfl rfl)
theorem dX13_part_91 : decode cX13_part 91 = .ok (.athrow, 1) := dk_191 (dk_at dksX13_part_3 20 rfl rfl)
theorem dX13_part_92 : decode cX13_part 92 = .ok (.aload_n 0, 1) := dk_42 (dk_at dksX13_part_3 21 rfl rfl)
theorem dX13_part_93 : decode cX13_part 93 = .ok (.invokevirtual 174, 3) := dk_182 0 174 (dk_at dksX13_part_4 0 rfl rfl)
theorem dX13_part_96 : decode cX13_part 96 = .ok (.aload_n 0, 1) := dk_42 (dk_at dksX13_part_4 3 rfl rfl)
theorem dX13_part_97 : decode cX13_part 97 = .ok (.invokevirtual 52, 3) := dk_182 0 52 (dk_at dksX13_part_4 4 rfl rfl)
theorem dX13_part_100 : decode cX13_part 100 = .ok (.new 244, 3) := dk_187 0 244 (dk_at dksX13_part_4 7 rfl rfl)
theorem dX13_part_103 : decode cX13_part 103 = .ok (.dup, 1) := dk_89 (dk_at dksX13_part_4 10 rfl rfl)
theorem dX13_part_104 : decode cX13_part 104 = .ok (.iload_n 1, 1) := dk_27 (dk_at dksX13_part_4 11 rfl rfl)
theorem dX13_part_105 : decode cX13_part 105 = .ok (.invokespecial 246, 3) := dk_183 0 246 (dk_at dksX13_part_4 12 rfl rfl)
theorem dX13_part_108 : decode cX13_part 108 = .ok (.areturn, 1) := dk_176 (dk_at dksX13_part_4 15 rfl rfl)
def dkwX13_opens_1 : List UInt8 := [180, 0, 141, 4, 96, 181, 0, 141, 42, 182, 0, 52, 177]
abbrev dktX13_opens_1 : List UInt8 := dkwX13_opens_1 ++ []
def dkwX13_opens_0 : List UInt8 := [42, 180, 0, 141, 16, 8, 160, 0, 15, 187, 0, 58, 89, 42, 180, 0, 31, 183, 0, 60, 191, 42, 89]
abbrev dktX13_opens_0 : List UInt8 := dkwX13_opens_0 ++ dktX13_opens_1
theorem dksX13_opens_0 : cX13_opens.data.toList.drop 0 = dktX13_opens_0 := by decide +kernel
theorem dksX13_opens_1 : cX13_opens.data.toList.drop 23 = dktX13_opens_1 := dk_seg dksX13_opens_0 23 rfl rfl
theorem dX13_opens_0 : decode cX13_opens 0 = .ok (.aload_n 0, 1) := dk_42 (dk_at dksX13_opens_0 0 rfl rfl)
theorem dX13_opens_1 : decode cX13_opens 1 = .ok (.getfield 141, 3) := dk_180 0 141 (dk_at dksX13_opens_0 1 rfl rfl)
theorem dX13_opens_4 : decode cX13_opens 4 = .ok (.bipush 8, 2) := dk_16 8 (dk_at dksX13_opens_0 4 rfl rfl)
theorem dX13_opens_6 : decode cX13_opens 6 = .ok (.if_icmp .ne 15, 3) := dk_160 0 15 (dk_at dksX13_opens_0 6 rfl rfl)
theorem dX13_opens_9 : decode cX13_opens 9 = .ok (.new 58, 3) := dk_187 0 58 (dk_at dksX13_opens_0 9 rfl rfl)
theorem dX13_opens_12 : decode cX13_opens 12 = .ok (.dup, 1) := dk_89 (dk_at dksX13_opens_0 12 rfl rfl)
theorem dX13_opens_13 : decode cX13_opens 13 = .ok (.aload_n 0, 1) := dk_42 (dk_at dksX13_opens_0 13 rfl rfl)
theorem dX13_opens_14 : decode cX13_opens 14 = .ok (.getfield 31, 3) := dk_180 0 31 (dk_at dksX13_opens_0 14 rfl rfl)
theorem dX13_opens_17 : decode cX13_opens 17 = .ok (.invokespecial 60, 3) := dk_183 0 60 (dk_at dksX13_opens_0 17 rfl rfl)
theorem dX13_opens_20 : decode cX13_opens 20 = .ok (.athrow, 1) := dk_191 (dk_at dksX13_opens_0 20 rfl rfl)
theorem dX13_opens_21 : decode cX13_opens 21 = .ok (.aload_n 0, 1) := dk_42 (dk_at dksX13_opens_0 21 rfl rfl)
theorem dX13_opens_22 : decode cX13_opens 22 = .ok (.dup, 1) := dk_89 (dk_at dksX13_opens_0 22 rfl rfl)
theorem dX13_opens_23 : decode cX13_opens 23 = .ok (.getfield 141, 3) := dk_180 0 141 (dk_at dksX13_opens_1 0 rfl rfl)
theorem dX13_opens_26 : decode cX13_opens 26 = .ok (.iconst 1, 1) := dk_4 (dk_at dksX13_opens_1 3 rfl rfl)
theorem dX13_opens_27 : decode cX13_opens 27 = .ok (.iadd, 1) := dk_96 (dk_at dksX13_opens_1 4 rfl rfl)
theorem dX13_opens_28 : decode cX13_opens 28 = .ok (.putfield 141, 3) := dk_181 0 141 (dk_at dksX13_opens_1 5 rfl rfl)
theorem dX13_opens_31 : decode cX13_opens 31 = .ok (.aload_n 0, 1) := dk_42 (dk_at dksX13_opens_1 8 rfl rfl)
theorem dX13_opens_32 : decode cX13_opens 32 = .ok (.invokevirtual 52, 3) := dk_182 0 52 (dk_at dksX13_opens_1 9 rfl rfl)
theorem dX13_opens_35 : decode cX13_opens 35 = .ok (.return_, 1) := dk_177 (dk_at dksX13_opens_1 12 rfl rfl)
def dkwX13_leaf_1 : List UInt8 := [180, 0, 208, 4, 96, 181, 0, 208, 177]
abbrev dktX13_leaf_1 : List UInt8 := dkwX13_leaf_1 ++ []
def dkwX13_leaf_0 : List UInt8 := [42, 180, 0, 208, 16, 50, 160, 0, 15, 187, 0, 58, 89, 42, 180, 0, 31, 183, 0, 60, 191, 42, 89]
abbrev dktX13_leaf_0 : List UInt8 := dkwX13_leaf_0 ++ dktX13_leaf_1
theorem dksX13_leaf_0 : cX13_leaf.data.toList.drop 0 = dktX13_leaf_0 := by decide +kernel
theorem dksX13_leaf_1 : cX13_leaf.data.toList.drop 23 = dktX13_leaf_1 := dk_seg dksX13_leaf_0 23 rfl rfl
theorem dX13_leaf_0 : decode cX13_leaf 0 = .ok (.aload_n 0, 1) := dk_42 (dk_at dksX13_leaf_0 0 rfl rfl)
theorem dX13_leaf_1 : decode cX13_leaf 1 = .ok (.getfield 208, 3) := dk_180 0 208 (dk_at dksX13_leaf_0 1 rfl rfl)
theorem dX13_leaf_4 : decode cX13_leaf 4 = .ok (.bipush 50, 2) := dk_16 50 (dk_at dksX13_leaf_0 4 rfl rfl)
theorem dX13_leaf_6 : decode cX13_leaf 6 = .ok (.if_icmp .ne 15, 3) := dk_160 0 15 (dk_at dksX13_leaf_0 6 rfl rfl)
theorem dX13_leaf_9 : decode cX13_leaf 9 = .ok (.new 58, 3) := dk_187 0 58 (dk_at dksX13_leaf_0 9 rfl rfl)
theorem dX13_leaf_12 : decode cX13_leaf 12 = .ok (.dup, 1) := dk_89 (dk_at dksX13_leaf_0 12 rfl rfl)
theorem dX13_leaf_13 : decode cX13_leaf 13 = .ok (.aload_n 0, 1) := dk_42 (dk_at dksX13_leaf_0 13 rfl rfl)
theorem dX13_leaf_14 : decode cX13_leaf 14 = .ok (.getfield 31, 3) := dk_180 0 31 (dk_at dksX13_leaf_0 14 rfl rfl)
theorem dX13_leaf_17 : decode cX13_leaf 17 = .ok (.invokespecial 60, 3) := dk_183 0 60 (dk_at dksX13_leaf_0 17 rfl rfl)
theorem dX13_leaf_20 : decode cX13_leaf 20 = .ok (.athrow, 1) := dk_191 (dk_at dksX13_leaf_0 20 rfl rfl)
theorem dX13_leaf_21 : decode cX13_leaf 21 = .ok (.aload_n 0, 1) := dk_42 (dk_at dksX13_leaf_0 21 rfl rfl)
theorem dX13_leaf_22 : decode cX13_leaf 22 = .ok (.dup, 1) := dk_89 (dk_at dksX13_leaf_0 22 rfl rfl)
theorem dX13_leaf_23 : decode cX13_leaf 23 = .ok (.getfield 208, 3) := dk_180 0 208 (dk_at dksX13_leaf_1 0 rfl rfl)
theorem dX13_leaf_26 : decode cX13_leaf 26 = .ok (.iconst 1, 1) := dk_4 (dk_at dksX13_leaf_1 3 rfl rfl)
theorem dX13_leaf_27 : decode cX13_leaf 27 = .ok (.iadd, 1) := dk_96 (dk_at dksX13_leaf_1 4 rfl rfl)
theorem dX13_leaf_28 : decode cX13_leaf 28 = .ok (.putfield 208, 3) := dk_181 0 208 (dk_at dksX13_leaf_1 5 rfl rfl)
theorem dX13_leaf_31 : decode cX13_leaf 31 = .ok (.return_, 1) := dk_177 (dk_at dksX13_leaf_1 8 rfl rfl)
def dkwX13_value_5 : List UInt8 := [182, 0, 48, 153, 0, 8, 16, 10, 167, 0, 4, 2, 172]
abbrev dktX13_value_5 : List UInt8 := dkwX13_value_5 ++ []
def dkwX13_value_4 : List UInt8 := [182, 0, 48, 153, 0, 6, 16, 8, 172, 42, 18, 229, 182, 0, 48, 153, 0, 6, 16, 9, 172, 42, 18, 231]
abbrev dktX13_value_4 : List UInt8 := dkwX13_value_4 ++ dktX13_value_5
def dkwX13_value_3 : List UInt8 := [182, 0, 48, 153, 0, 6, 16, 6, 172, 42, 18, 225, 182, 0, 48, 153, 0, 6, 16, 7, 172, 42, 18, 227]
abbrev dktX13_value_3 : List UInt8 := dkwX13_value_3 ++ dktX13_value_4
def dkwX13_value_2 : List UInt8 := [182, 0, 48, 153, 0, 5, 7, 172, 42, 18, 221, 182, 0, 48, 153, 0, 5, 8, 172, 42, 18, 223]
abbrev dktX13_value_2 : List UInt8 := dkwX13_value_2 ++ dktX13_value_3
def dkwX13_value_1 : List UInt8 := [18, 215, 182, 0, 48, 153, 0, 5, 5, 172, 42, 18, 217, 182, 0, 48, 153, 0, 5, 6, 172, 42, 18, 219]
abbrev dktX13_value_1 : List UInt8 := dkwX13_value_1 ++ dktX13_value_2
def dkwX13_value_0 : List UInt8 := [42, 18, 211, 182, 0, 48, 153, 0, 5, 3, 172, 42, 18, 213, 182, 0, 48, 153, 0, 5, 4, 172, 42]
abbrev dktX13_value_0 : List UInt8 := dkwX13_value_0 ++ dktX13_value_1
theorem dksX13_value_0 : cX13_value.data.toList.drop 0 = dktX13_value_0 := by decide +kernel
theorem dksX13_value_1 : cX13_value.data.toList.drop 23 = dktX13_value_1 := dk_seg dksX13_value_0 23 rfl rfl
theorem dksX13_value_2 : cX13_value.data.toList.drop 47 = dktX13_value_2 := dk_seg dksX13_value_1 24 rfl rfl
theorem dksX13_value_3 : cX13_value.data.toList.drop 69 = dktX13_value_3 := dk_seg dksX13_value_2 22 rfl rfl
theorem dksX13_value_4 : cX13_value.data.toList.drop 93 = dktX13_value_4 := dk_seg dksX13_value_3 24 rfl rfl
theorem dksX13_value_5 : cX13_value.data.toList.drop 117 = dktX13_value_5 := dk_seg dksX13_value_4 24 rfl rfl
theorem dX13_value_0 : decode cX13_value 0 = .ok (.aload_n 0, 1) := dk_42 (dk_at dksX13_value_0 0 rfl rfl)
theorem dX13_value_1 : decode cX13_value 1 = .ok (.ldc 211, 2) := dk_18 211 (dk_at dksX13_value_0 1 rfl rfl)
theorem dX13_value_3 : decode cX13_value 3 = .ok (.invokevirtual 48, 3) := dk_182 0 48 (dk_at dksX13_value_0 3 rfl rfl)
theorem dX13_value_6 : decode cX13_value 6 = .ok (.ifCond .eq 5, 3) := dk_153 0 5 (dk_at dksX13_value_0 6 rfl rfl)
theorem dX13_value_9 : decode cX13_value 9 = .ok (.iconst 0, 1) := dk_3 (dk_at dksX13_value_0 9 rfl rfl)
theorem dX13_value_10 : decode cX13_value 10 = .ok (.ireturn, 1) := dk_172 (dk_at dksX13_value_0 10 rfl rfl)
theorem dX13_value_11 : decode cX13_value 11 = .ok (.aload_n 0, 1) := dk_42 (dk_at dksX13_value_0 11 rfl rfl)
theorem dX13_value_12 : decode cX13_value 12 = .ok (.ldc 213, 2) := dk_18 213 (dk_at dksX13_value_0 12 rfl rfl)
theorem dX13_value_14 : decode cX13_value 14 = .ok (.invokevirtual 48, 3) := dk_182 0 48 (dk_at dksX13_value_0 14 rfl rfl)
theorem dX13_value_17 : decode cX13_value 17 = .ok (.ifCond .eq 5, 3) := dk_153 0 5 (dk_at dksX13_value_0 17 rfl rfl)
theorem dX13_value_20 : decode cX13_value 20 = .ok (.iconst 1, 1) := dk_4 (dk_at dksX13_value_0 20 rfl rfl)
theorem dX13_value_21 : decode cX13_value 21 = .ok (.ireturn, 1) := dk_172 (dk_at dksX13_value_0 21 rfl rfl)
theorem dX13_value_22 : decode cX13_value 22 = .ok (.aload_n 0, 1) := dk_42 (dk_at dksX13_value_0 22 rfl rfl)
theorem dX13_value_23 : decode cX13_value 23 = .ok (.ldc 215, 2) := dk_18 215 (dk_at dksX13_value_1 0 rfl rfl)
theorem dX13_value_25 : decode cX13_value 25 = .ok (.invokevirtual 48, 3) := dk_182 0 48 (dk_at dksX13_value_1 2 rfl rfl)
theorem dX13_value_28 : decode cX13_value 28 = .ok (.ifCond .eq 5, 3) := dk_153 0 5 (dk_at dksX13_value_1 5 rfl rfl)
theorem dX13_value_31 : decode cX13_value 31 = .ok (.iconst 2, 1) := dk_5 (dk_at dksX13_value_1 8 rfl rfl)
theorem dX13_value_32 : decode cX13_value 32 = .ok (.ireturn, 1) := dk_172 (dk_at dksX13_value_1 9 rfl rfl)
theorem dX13_value_33 : decode cX13_value 33 = .ok (.aload_n 0, 1) := dk_42 (dk_at dksX13_value_1 10 rfl rfl)
theorem dX13_value_34 : decode cX13_value 34 = .ok (.ldc 217, 2) := dk_18 217 (dk_at dksX13_value_1 11 rfl rfl)
theorem dX13_value_36 : decode cX13_value 36 = .ok (.invokevirtual 48, 3) := dk_182 0 48 (dk_at dksX13_value_1 13 rfl rfl)
theorem dX13_value_39 : decode cX13_value 39 = .ok (.ifCond .eq 5, 3) := dk_153 0 5 (dk_at dksX13_value_1 16 rfl rfl)
theorem dX13_value_42 : decode cX13_value 42 = .ok (.iconst 3, 1) := dk_6 (dk_at dksX13_value_1 19 rfl rfl)
theorem dX13_value_43 : decode cX13_value 43 = .ok (.ireturn, 1) := dk_172 (dk_at dksX13_value_1 20 rfl rfl)
theorem dX13_value_44 : decode cX13_value 44 = .ok (.aload_n 0, 1) := dk_42 (dk_at dksX13_value_1 21 rfl rfl)
theorem dX13_value_45 : decode cX13_value 45 = .ok (.ldc 219, 2) := dk_18 219 (dk_at dksX13_value_1 22 rfl rfl)
theorem dX13_value_47 : decode cX13_value 47 = .ok (.invokevirtual 48, 3) := dk_182 0 48 (dk_at dksX13_value_2 0 rfl rfl)
theorem dX13_value_50 : decode cX13_value 50 = .ok (.ifCond .eq 5, 3) := dk_153 0 5 (dk_at dksX13_value_2 3 rfl rfl)
theorem dX13_value_53 : decode cX13_value 53 = .ok (.iconst 4, 1) := dk_7 (dk_at dksX13_value_2 6 rfl rfl)
theorem dX13_value_54 : decode cX13_value 54 = .ok (.ireturn, 1) := dk_172 (dk_at dksX13_value_2 7 rfl rfl)
theorem dX13_value_55 : decode cX13_value 55 = .ok (.aload_n 0, 1) := dk_42 (dk_at dksX13_value_2 8 rfl rfl)
theorem dX13_value_56 : decode cX13_value 56 = .ok (.ldc 221, 2) := dk_18 221 (dk_at dksX13_value_2 9 rfl rfl)
theorem dX13_value_58 : decode cX13_value 58 = .ok (.invokevirtual 48, 3) := dk_182 0 48 (dk_at dksX13_value_2 11 rfl rfl)
theorem dX13_value_61 : decode cX13_value 61 = .ok (.ifCond .eq 5, 3) := dk_153 0 5 (dk_at dksX13_value_2 14 rfl rfl)
theorem dX13_value_64 : decode cX13_value 64 = .ok (.iconst 5, 1) := dk_8 (dk_at dksX13_value_2 17 rfl rfl)
theorem dX13_value_65 : decode cX13_value 65 = .ok (.ireturn, 1) := dk_172 (dk_at dksX13_value_2 18 rfl rfl)
theorem dX13_value_66 : decode cX13_value 66 = .ok (.aload_n 0, 1) := dk_42 (dk_at dksX13_value_2 19 rfl rfl)
theorem dX13_value_67 : decode cX13_value 67 = .ok (.ldc 223, 2) := dk_18 223 (dk_at dksX13_value_2 20 rfl rfl)
theorem dX13_value_69 : decode cX13_value 69 = .ok (.invokevirtual 48, 3) := dk_182 0 48 (dk_at dksX13_value_3 0 rfl rfl)
theorem dX13_value_72 : decode cX13_value 72 = .ok (.ifCond .eq 6, 3) := dk_153 0 6 (dk_at dksX13_value_3 3 rfl rfl)
theorem dX13_value_75 : decode cX13_value 75 = .ok (.bipush 6, 2) := dk_16 6 (dk_at dksX13_value_3 6 rfl rfl)
theorem dX13_value_77 : decode cX13_value 77 = .ok (.ireturn, 1) := dk_172 (dk_at dksX13_value_3 8 rfl rfl)
theorem dX13_value_78 : decode cX13_value 78 = .ok (.aload_n 0, 1) := dk_42 (dk_at dksX13_value_3 9 rfl rfl)
theorem dX13_value_79 : decode cX13_value 79 = .ok (.ldc 225, 2) := dk_18 225 (dk_at dksX13_value_3 10 rfl rfl)
theorem dX13_value_81 : decode cX13_value 81 = .ok (.invokevirtual 48, 3) := dk_182 0 48 (dk_at dksX13_value_3 12 rfl rfl)
theorem dX13_value_84 : decode cX13_value 84 = .ok (.ifCond .eq 6, 3) := dk_153 0 6 (dk_at dksX13_value_3 15 rfl rfl)
theorem dX13_value_87 : decode cX13_value 87 = .ok (.bipush 7, 2) := dk_16 7 (dk_at dksX13_value_3 18 rfl rfl)
theorem dX13_value_89 : decode cX13_value 89 = .ok (.ireturn, 1) := dk_172 (dk_at dksX13_value_3 20 rfl rfl)
theorem dX13_value_90 : decode cX13_value 90 = .ok (.aload_n 0, 1) := dk_42 (dk_at dksX13_value_3 21 rfl rfl)
theorem dX13_value_91 : decode cX13_value 91 = .ok (.ldc 227, 2) := dk_18 227 (dk_at dksX13_value_3 22 rfl rfl)
theorem dX13_value_93 : decode cX13_value 93 = .ok (.invokevirtual 48, 3) := dk_182 0 48 (dk_at dksX13_value_4 0 rfl rfl)
theorem dX13_value_96 : decode cX13_value 96 = .ok (.ifCond .eq 6, 3) := dk_153 0 6 (dk_at dksX13_value_4 3 rfl rfl)
theorem dX13_value_99 : decode cX13_value 99 = .ok (.bipush 8, 2) := dk_16 8 (dk_at dksX13_value_4 6 rfl rfl)
theorem dX13_value_101 : decode cX13_value 101 = .ok (.ireturn, 1) := dk_172 (dk_at dksX13_value_4 8 rfl rfl)
theorem dX13_value_102 : decode cX13_value 102 = .ok (.aload_n 0, 1) := dk_42 (dk_at dksX13_value_4 9 rfl rfl)
theorem dX13_value_103 : decode cX13_value 103 = .ok (.ldc 229, 2) := dk_18 229 (dk_at dksX13_value_4 10 rfl rfl)
theorem dX13_value_105 : decode cX13_value 105 = .ok (.invokevirtual 48, 3) := dk_182 0 48 (dk_at dksX13_value_4 12 rfl rfl)
theorem dX13_value_108 : decode cX13_value 108 = .ok (.ifCond .eq 6, 3) := dk_153 0 6 (dk_at dksX13_value_4 15 rfl rfl)
theorem dX13_value_111 : decode cX13_value 111 = .ok (.bipush 9, 2) := dk_16 9 (dk_at dksX13_value_4 18 rfl rfl)
theorem dX13_value_113 : decode cX13_value 113 = .ok (.ireturn, 1) := dk_172 (dk_at dksX13_value_4 20 rfl rfl)
theorem dX13_value_114 : decode cX13_value 114 = .ok (.aload_n 0, 1) := dk_42 (dk_at dksX13_value_4 21 rfl rfl)
theorem dX13_value_115 : decode cX13_value 115 = .ok (.ldc 231, 2) := dk_18 231 (dk_at dksX13_value_4 22 rfl rfl)
theorem dX13_value_117 : decode cX13_value 117 = .ok (.invokevirtual 48, 3) := dk_182 0 48 (dk_at dksX13_value_5 0 rfl rfl)
theorem dX13_value_120 : decode cX13_value 120 = .ok (.ifCond .eq 8, 3) := dk_153 0 8 (dk_at dksX13_value_5 3 rfl rfl)
theorem dX13_value_123 : decode cX13_value 123 = .ok (.bipush 10, 2) := dk_16 10 (dk_at dksX13_value_5 6 rfl rfl)
theorem dX13_value_125 : decode cX13_value 125 = .ok (.goto 4, 3) := dk_167 0 4 (dk_at dksX13_value_5 8 rfl rfl)
theorem dX13_value_128 : decode cX13_value 128 = .ok (.iconst (-1), 1) := dk_2 (dk_at dksX13_value_5 11 rfl rfl)
theorem dX13_value_129 : decode cX13_value 129 = .ok (.ireturn, 1) := dk_172 (dk_at dksX13_value_5 12 rfl rfl)
def dkwX13_test_2 : List UInt8 := [182, 0, 123, 182, 0, 84, 87, 167, 255, 235, 44, 176]
abbrev dktX13_test_2 : List UInt8 := dkwX13_test_2 ++ []
def dkwX13_test_1 : List UInt8 := [77, 44, 180, 0, 133, 43, 182, 0, 84, 87, 42, 18, 126, 182, 0, 55, 153, 0, 18, 44, 180, 0, 133, 42]
abbrev dktX13_test_1 : List UInt8 := dkwX13_test_1 ++ dktX13_test_2
def dkwX13_test_0 : List UInt8 := [42, 182, 0, 123, 76, 42, 18, 126, 182, 0, 48, 154, 0, 5, 43, 176, 187, 0, 128, 89, 3, 183, 0, 130]
abbrev dktX13_test_0 : List UInt8 := dkwX13_test_0 ++ dktX13_test_1
theorem dksX13_test_0 : cX13_test.data.toList.drop 0 = dktX13_test_0 := by decide +kernel
theorem dksX13_test_1 : cX13_test.data.toList.drop 24 = dktX13_test_1 := dk_seg dksX13_test_0 24 rfl rfl
theorem dksX13_test_2 : cX13_test.data.toList.drop 48 = dktX13_test_2 := dk_seg dksX13_test_1 24 rfl rfl
theorem dX13_test_0 : decode cX13_test 0 = .ok (.aload_n 0, 1) := dk_42 (dk_at dksX13_test_0 0 rfl rfl)
theorem dX13_test_1 : decode cX13_test 1 = .ok (.invokevirtual 123, 3) := dk_182 0 123 (dk_at dksX13_test_0 1 rfl rfl)
theorem dX13_test_4 : decode cX13_test 4 = .ok (.astore_n 1, 1) := dk_76 (dk_at dksX13_test_0 4 rfl rfl)
theorem dX13_test_5 : decode cX13_test 5 = .ok (.aload_n 0, 1) := dk_42 (dk_at dksX13_test_0 5 rfl rfl)
theorem dX13_test_6 : decode cX13_test 6 = .ok (.ldc 126, 2) := dk_18 126 (dk_at dksX13_test_0 6 rfl rfl)
theorem dX13_test_8 : decode cX13_test 8 = .ok (.invokevirtual 48, 3) := dk_182 0 48 (dk_at dksX13_test_0 8 rfl rfl)
theorem dX13_test_11 : decode cX13_test 11 = .ok (.ifCond .ne 5, 3) := dk_154 0 5 (dk_at dksX13_test_0 11 rfl rfl)
theorem dX13_test_14 : decode cX13_test 14 = .ok (.aload_n 1, 1) := dk_43 (dk_at dksX13_test_0 14 rfl rfl)
theorem dX13_test_15 : decode cX13_test 15 = .ok (.areturn, 1) := dk_176 (dk_at dksX13_test_0 15 rfl rfl)
theorem dX13_test_16 : decode cX13_test 16 = .ok (.new 128, 3) := dk_187 0 128 (dk_at dksX13_test_0 16 rfl rfl)
theorem dX13_test_19 : decode cX13_test 19 = .ok (.dup, 1) := dk_89 (dk_at dksX13_test_0 19 rfl rfl)
theorem dX13_test_20 : decode cX13_test 20 = .ok (.iconst 0, 1) := dk_3 (dk_at dksX13_test_0 20 rfl rfl)
theorem dX13_test_21 : decode cX13_test 21 = .ok (.invokespecial 130, 3) := dk_183 0 130 (dk_at dksX13_test_0 21 rfl rfl)
theorem dX13_test_24 : decode cX13_test 24 = .ok (.astore_n 2, 1) := dk_77 (dk_at dksX13_test_1 0 rfl rfl)
theorem dX13_test_25 : decode cX13_test 25 = .ok (.aload_n 2, 1) := dk_44 (dk_at dksX13_test_1 1 rfl rfl)
theorem dX13_test_26 : decode cX13_test 26 = .ok (.getfield 133, 3) := dk_180 0 133 (dk_at dksX13_test_1 2 rfl rfl)
theorem dX13_test_29 : decode cX13_test 29 = .ok (.aload_n 1, 1) := dk_43 (dk_at dksX13_test_1 5 rfl rfl)
theorem dX13_test_30 : decode cX13_test 30 = .ok (.invokevirtual 84, 3) := dk_182 0 84 (dk_at dksX13_test_1 6 rfl rfl)
theorem dX13_test_33 : decode cX13_test 33 = .ok (.pop, 1) := dk_87 (dk_at dksX13_test_1 9 rfl rfl)
theorem dX13_test_34 : decode cX13_test 34 = .ok (.aload_n 0, 1) := dk_42 (dk_at dksX13_test_1 10 rfl rfl)
theorem dX13_test_35 : decode cX13_test 35 = .ok (.ldc 126, 2) := dk_18 126 (dk_at dksX13_test_1 11 rfl rfl)
theorem dX13_test_37 : decode cX13_test 37 = .ok (.invokevirtual 55, 3) := dk_182 0 55 (dk_at dksX13_test_1 13 rfl rfl)
theorem dX13_test_40 : decode cX13_test 40 = .ok (.ifCond .eq 18, 3) := dk_153 0 18 (dk_at dksX13_test_1 16 rfl rfl)
theorem dX13_test_43 : decode cX13_test 43 = .ok (.aload_n 2, 1) := dk_44 (dk_at dksX13_test_1 19 rfl rfl)
theorem dX13_test_44 : decode cX13_test 44 = .ok (.getfield 133, 3) := dk_180 0 133 (dk_at dksX13_test_1 20 rfl rfl)
theorem dX13_test_47 : decode cX13_test 47 = .ok (.aload_n 0, 1) := dk_42 (dk_at dksX13_test_1 23 rfl rfl)
theorem dX13_test_48 : decode cX13_test 48 = .ok (.invokevirtual 123, 3) := dk_182 0 123 (dk_at dksX13_test_2 0 rfl rfl)
theorem dX13_test_51 : decode cX13_test 51 = .ok (.invokevirtual 84, 3) := dk_182 0 84 (dk_at dksX13_test_2 3 rfl rfl)
theorem dX13_test_54 : decode cX13_test 54 = .ok (.pop, 1) := dk_87 (dk_at dksX13_test_2 6 rfl rfl)
theorem dX13_test_55 : decode cX13_test 55 = .ok (.goto (-21), 3) := dk_167 255 235 (dk_at dksX13_test_2 7 rfl rfl)
theorem dX13_test_58 : decode cX13_test 58 = .ok (.aload_n 2, 1) := dk_44 (dk_at dksX13_test_2 10 rfl rfl)
theorem dX13_test_59 : decode cX13_test 59 = .ok (.areturn, 1) := dk_176 (dk_at dksX13_test_2 11 rfl rfl)
def dkwX13_both_2 : List UInt8 := [182, 0, 136, 182, 0, 84, 87, 167, 255, 235, 44, 176]
abbrev dktX13_both_2 : List UInt8 := dkwX13_both_2 ++ []
def dkwX13_both_1 : List UInt8 := [77, 44, 180, 0, 133, 43, 182, 0, 84, 87, 42, 18, 139, 182, 0, 55, 153, 0, 18, 44, 180, 0, 133, 42]
abbrev dktX13_both_1 : List UInt8 := dkwX13_both_1 ++ dktX13_both_2
def dkwX13_both_0 : List UInt8 := [42, 182, 0, 136, 76, 42, 18, 139, 182, 0, 48, 154, 0, 5, 43, 176, 187, 0, 128, 89, 4, 183, 0, 130]
abbrev dktX13_both_0 : List UInt8 := dkwX13_both_0 ++ dktX13_both_1
theorem dksX13_both_0 : cX13_both.data.toList.drop 0 = dktX13_both_0 := by decide +kernel
theorem dksX13_both_1 : cX13_both.data.toList.drop 24 = dktX13_both_1 := dk_seg dksX13_both_0 24 rfl rfl
theorem dksX13_both_2 : cX13_both.data.toList.drop 48 = dktX13_both_2 := dk_seg dksX13_both_1 24 rfl rfl
theorem dX13_both_0 : decode cX13_both 0 = .ok (.aload_n 0, 1) := dk_42 (dk_at dksX13_both_0 0 rfl rfl)
theorem dX13_both_1 : decode cX13_both 1 = .ok (.invokevirtual 136, 3) := dk_182 0 136 (dk_at dksX13_both_0 1 rfl rfl)
theorem dX13_both_4 : decode cX13_both 4 = .ok (.astore_n 1, 1) := dk_76 (dk_at dksX13_both_0 4 rfl rfl)
theorem dX13_both_5 : decode cX13_both 5 = .ok (.aload_n 0, 1) := dk_42 (dk_at dksX13_both_0 5 rfl rfl)
theorem dX13_both_6 : decode cX13_both 6 = .ok (.ldc 139, 2) := dk_18 139 (dk_at dksX13_both_0 6 rfl rfl)
theorem dX13_both_8 : decode cX13_both 8 = .ok (.invokevirtual 48, 3) := dk_182 0 48 (dk_at dksX13_both_0 8 rfl rfl)
theorem dX13_both_11 : decode cX13_both 11 = .ok (.ifCond .ne 5, 3) := dk_154 0 5 (dk_at dksX13_both_0 11 rfl rfl)
theorem dX13_both_14 : decode cX13_both 14 = .ok (.aload_n 1, 1) := dk_43 (dk_at dksX13_both_0 14 rfl rfl)
theorem dX13_both_15 : decode cX13_both 15 = .ok (.areturn, 1) := dk_176 (dk_at dksX13_both_0 15 rfl rfl)
theorem dX13_both_16 : decode cX13_both 16 = .ok (.new 128, 3) := dk_187 0 128 (dk_at dksX13_both_0 16 rfl rfl)
theorem dX13_both_19 : decode cX13_both 19 = .ok (.dup, 1) := dk_89 (dk_at dksX13_both_0 19 rfl rfl)
theorem dX13_both_20 : decode cX13_both 20 = .ok (.iconst 1, 1) := dk_4 (dk_at dksX13_both_0 20 rfl rfl)
theorem dX13_both_21 : decode cX13_both 21 = .ok (.invokespecial 130, 3) := dk_183 0 130 (dk_at dksX13_both_0 21 rfl rfl)
theorem dX13_both_24 : decode cX13_both 24 = .ok (.astore_n 2, 1) := dk_77 (dk_at dksX13_both_1 0 rfl rfl)
theorem dX13_both_25 : decode cX13_both 25 = .ok (.aload_n 2, 1) := dk_44 (dk_at dksX13_both_1 1 rfl rfl)
theorem dX13_both_26 : decode cX13_both 26 = .ok (.getfield 133, 3) := dk_180 0 133 (dk_at dksX13_both_1 2 rfl rfl)
theorem dX13_both_29 : decode cX13_both 29 = .ok (.aload_n 1, 1) := dk_43 (dk_at dksX13_both_1 5 rfl rfl)
theorem dX13_both_30 : decode cX13_both 30 = .ok (.invokevirtual 84, 3) := dk_182 0 84 (dk_at dksX13_both_1 6 rfl rfl)
theorem dX13_both_33 : decode cX13_both 33 = .ok (.pop, 1) := dk_87 (dk_at dksX13_both_1 9 rfl rfl)
theorem dX13_both_34 : decode cX13_both 34 = .ok (.aload_n 0, 1) := dk_42 (dk_at dksX13_both_1 10 rfl rfl)
theorem dX13_both_35 : decode cX13_both 35 = .ok (.ldc 139, 2) := dk_18 139 (dk_at dksX13_both_1 11 rfl rfl)
theorem dX13_both_37 : decode cX13_both 37 = .ok (.invokevirtual 55, 3) := dk_182 0 55 (dk_at dksX13_both_1 13 rfl rfl)
theorem dX13_both_40 : decode cX13_both 40 = .ok (.ifCond .eq 18, 3) := dk_153 0 18 (dk_at dksX13_both_1 16 rfl rfl)
theorem dX13_both_43 : decode cX13_both 43 = .ok (.aload_n 2, 1) := dk_44 (dk_at dksX13_both_1 19 rfl rfl)
theorem dX13_both_44 : decode cX13_both 44 = .ok (.getfield 133, 3) := dk_180 0 133 (dk_at dksX13_both_1 20 rfl rfl)
theorem dX13_both_47 : decode cX13_both 47 = .ok (.aload_n 0, 1) := dk_42 (dk_at dksX13_both_1 23 rfl rfl)
theorem dX13_both_48 : decode cX13_both 48 = .ok (.invokevirtual 136, 3) := dk_182 0 136 (dk_at dksX13_both_2 0 rfl rfl)
theorem dX13_both_51 : decode cX13_both 51 = .ok (.invokevirtual 84, 3) := dk_182 0 84 (dk_at dksX13_both_2 3 rfl rfl)
theorem dX13_both_54 : decode cX13_both 54 = .ok (.pop, 1) := dk_87 (dk_at dksX13_both_2 6 rfl rfl)
theorem dX13_both_55 : decode cX13_both 55 = .ok (.goto (-21), 3) := dk_167 255 235 (dk_at dksX13_both_2 7 rfl rfl)
theorem dX13_both_58 : decode cX13_both 58 = .ok (.aload_n 2, 1) := dk_44 (dk_at dksX13_both_2 10 rfl rfl)
theorem dX13_both_59 : decode cX13_both 59 = .ok (.areturn, 1) := dk_176 (dk_at dksX13_both_2 11 rfl rfl)
def dkwX13_plain_1 : List UInt8 := [42, 182, 0, 146, 77, 27, 153, 0, 14, 187, 0, 149, 89, 44, 183, 0, 151, 167, 0, 4, 44, 176]
abbrev dktX13_plain_1 : List UInt8 := dkwX13_plain_1 ++ []
def dkwX13_plain_0 : List UInt8 := [3, 60, 42, 18, 144, 182, 0, 55, 153, 0, 16, 27, 154, 0, 7, 4, 167, 0, 4, 3, 60, 167, 255, 237]
abbrev dktX13_plain_0 : List UInt8 := dkwX13_plain_0 ++ dktX13_plain_1
theorem dksX13_plain_0 : cX13_plain.data.toList.drop 0 = dktX13_plain_0 := by decide +kernel
theorem dksX13_plain_1 : cX13_plain.data.toList.drop 24 = dktX13_plain_1 := dk_seg dksX13_plain_0 24 rfl rfl
theorem dX13_plain_0 : decode cX13_plain 0 = .ok (.iconst 0, 1) := dk_3 (dk_at dksX13_plain_0 0 rfl rfl)
theorem dX13_plain_1 : decode cX13_plain 1 = .ok (.istore_n 1, 1) := dk_60 (dk_at dksX13_plain_0 1 rfl rfl)
theorem dX13_plain_2 : decode cX13_plain 2 = .ok (.aload_n 0, 1) := dk_42 (dk_at dksX13_plain_0 2 rfl rfl)
theorem dX13_plain_3 : decode cX13_plain 3 = .ok (.ldc 144, 2) := dk_18 144 (dk_at dksX13_plain_0 3 rfl rfl)
theorem dX13_plain_5 : decode cX13_plain 5 = .ok (.invokevirtual 55, 3) := dk_182 0 55 (dk_at dksX13_plain_0 5 rfl rfl)
theorem dX13_plain_8 : decode cX13_plain 8 = .ok (.ifCond .eq 16, 3) := dk_153 0 16 (dk_at dksX13_plain_0 8 rfl rfl)
theorem dX13_plain_11 : decode cX13_plain 11 = .ok (.iload_n 1, 1) := dk_27 (dk_at dksX13_plain_0 11 rfl rfl)
theorem dX13_plain_12 : decode cX13_plain 12 = .ok (.ifCond .ne 7, 3) := dk_154 0 7 (dk_at dksX13_plain_0 12 rfl rfl)
theorem dX13_plain_15 : decode cX13_plain 15 = .ok (.iconst 1, 1) := dk_4 (dk_at dksX13_plain_0 15 rfl rfl)
theorem dX13_plain_16 : decode cX13_plain 16 = .ok (.goto 4, 3) := dk_167 0 4 (dk_at dksX13_plain_0 16 rfl rfl)
theorem dX13_plain_19 : decode cX13_plain 19 = .ok (.iconst 0, 1) := dk_3 (dk_at dksX13_plain_0 19 rfl rfl)
theorem dX13_plain_20 : decode cX13_plain 20 = .ok (.istore_n 1, 1) := dk_60 (dk_at dksX13_plain_0 20 rfl rfl)
theorem dX13_plain_21 : decode cX13_plain 21 = .ok (.goto (-19), 3) := dk_167 255 237 (dk_at dksX13_plain_0 21 rfl rfl)
theorem dX13_plain_24 : decode cX13_plain 24 = .ok (.aload_n 0, 1) := dk_42 (dk_at dksX13_plain_1 0 rfl rfl)
theorem dX13_plain_25 : decode cX13_plain 25 = .ok (.invokevirtual 146, 3) := dk_182 0 146 (dk_at dksX13_plain_1 1 rfl rfl)
theorem dX13_plain_28 : decode cX13_plain 28 = .ok (.astore_n 2, 1) := dk_77 (dk_at dksX13_plain_1 4 rfl rfl)
theorem dX13_plain_29 : decode cX13_plain 29 = .ok (.iload_n 1, 1) := dk_27 (dk_at dksX13_plain_1 5 rfl rfl)
theorem dX13_plain_30 : decode cX13_plain 30 = .ok (.ifCond .eq 14, 3) := dk_153 0 14 (dk_at dksX13_plain_1 6 rfl rfl)
theorem dX13_plain_33 : decode cX13_plain 33 = .ok (.new 149, 3) := dk_187 0 149 (dk_at dksX13_plain_1 9 rfl rfl)
theorem dX13_plain_36 : decode cX13_plain 36 = .ok (.dup, 1) := dk_89 (dk_at dksX13_plain_1 12 rfl rfl)
theorem dX13_plain_37 : decode cX13_plain 37 = .ok (.aload_n 2, 1) := dk_44 (dk_at dksX13_plain_1 13 rfl rfl)
theorem dX13_plain_38 : decode cX13_plain 38 = .ok (.invokespecial 151, 3) := dk_183 0 151 (dk_at dksX13_plain_1 14 rfl rfl)
theorem dX13_plain_41 : decode cX13_plain 41 = .ok (.goto 4, 3) := dk_167 0 4 (dk_at dksX13_plain_1 17 rfl rfl)
theorem dX13_plain_44 : decode cX13_plain 44 = .ok (.aload_n 2, 1) := dk_44 (dk_at dksX13_plain_1 20 rfl rfl)
theorem dX13_plain_45 : decode cX13_plain 45 = .ok (.areturn, 1) := dk_176 (dk_at dksX13_plain_1 21 rfl rfl)
def dkwX13_positive_5 : List UInt8 := [182, 0, 52, 187, 0, 186, 89, 29, 44, 42, 182, 0, 116, 183, 0, 188, 176]
abbrev dktX13_positive_5 : List UInt8 := dkwX13_positive_5 ++ []
def dkwX13_positive_4 : List UInt8 := [187, 0, 58, 89, 42, 180, 0, 31, 183, 0, 60, 191, 42, 180, 0, 20, 42, 180, 0, 31, 51, 146, 62, 42]
abbrev dktX13_positive_4 : List UInt8 := dkwX13_positive_4 ++ dktX13_positive_5
def dkwX13_positive_3 : List UInt8 := [182, 0, 48, 154, 0, 33, 42, 18, 182, 182, 0, 48, 154, 0, 24, 42, 18, 184, 182, 0, 48, 154, 0, 15]
abbrev dktX13_positive_3 : List UInt8 := dkwX13_positive_3 ++ dktX13_positive_4
def dkwX13_positive_2 : List UInt8 := [182, 0, 174, 42, 182, 0, 52, 187, 0, 177, 89, 27, 183, 0, 179, 176, 42, 182, 0, 116, 77, 42, 18, 180]
abbrev dktX13_positive_2 : List UInt8 := dkwX13_positive_2 ++ dktX13_positive_3
def dkwX13_positive_1 : List UInt8 := [42, 89, 180, 0, 141, 4, 100, 181, 0, 141, 43, 176, 42, 182, 0, 171, 60, 27, 2, 159, 0, 20, 42]
abbrev dktX13_positive_1 : List UInt8 := dkwX13_positive_1 ++ dktX13_positive_2
def dkwX13_positive_0 : List UInt8 := [42, 18, 164, 182, 0, 48, 153, 0, 30, 42, 182, 0, 166, 42, 182, 0, 94, 76, 42, 18, 169, 182, 0, 75]
abbrev dktX13_positive_0 : List UInt8 := dkwX13_positive_0 ++ dktX13_positive_1
theorem dksX13_positive_0 : cX13_positive.data.toList.drop 0 = dktX13_positive_0 := by decide +kernel
theorem dksX13_positive_1 : cX13_positive.data.toList.drop 24 = dktX13_positive_1 := dk_seg dksX13_positive_0 24 rfl rfl
theorem dksX13_positive_2 : cX13_positive.data.toList.drop 47 = dktX13_positive_2 := dk_seg dksX13_positive_1 23 rfl rfl
theorem dksX13_positive_3 : cX13_positive.data.toList.drop 71 = dktX13_positive_3 := dk_seg dksX13_positive_2 24 rfl rfl
theorem dksX13_positive_4 : cX13_positive.data.toList.drop 95 = dktX13_positive_4 := dk_seg dksX13_positive_3 24 rfl rfl
theorem dksX13_positive_5 : cX13_positive.data.toList.drop 119 = dktX13_positive_5 := dk_seg dksX13_positive_4 24 rfl rfl
theorem dX13_positive_0 : decode cX13_positive 0 = .ok (.aload_n 0, 1) := dk_42 (dk_at dksX13_positive_0 0 rfl rfl)
theorem dX13_positive_1 : decode cX13_positive 1 = .ok (.ldc 164, 2) := dk_18 164 (dk_at dksX13_positive_0 1 rfl rfl)
theorem dX13_positive_3 : decode cX13_positive 3 = .ok (.invokevirtual 48, 3) := dk_182 0 48 (dk_at dksX13_positive_0 3 rfl rfl)
theorem dX13_positive_6 : decode cX13_positive 6 = .ok (.ifCond .eq 30, 3) := dk_153 0 30 (dk_at dksX13_positive_0 6 rfl rfl)
theorem dX13_positive_9 : decode cX13_positive 9 = .ok (.aload_n 0, 1) := dk_42 (dk_at dksX13_positive_0 9 rfl rfl)
theorem dX13_positive_10 : decode cX13_positive 10 = .ok (.invokevirtual 166, 3) := dk_182 0 166 (dk_at dksX13_positive_0 10 rfl rfl)
theorem dX13_positive_13 : decode cX13_positive 13 = .ok (.aload_n 0, 1) := dk_42 (dk_at dksX13_positive_0 13 rfl rfl)
theorem dX13_positive_14 : decode cX13_positive 14 = .ok (.invokevirtual 94, 3) := dk_182 0 94 (dk_at dksX13_positive_0 14 rfl rfl)
theorem dX13_positive_17 : decode cX13_positive 17 = .ok (.astore_n 1, 1) := dk_76 (dk_at dksX13_positive_0 17 rfl rfl)
theorem dX13_positive_18 : decode cX13_positive 18 = .ok (.aload_n 0, 1) := dk_42 (dk_at dksX13_positive_0 18 rfl rfl)
theorem dX13_positive_19 : decode cX13_positive 19 = .ok (.ldc 169, 2) := dk_18 169 (dk_at dksX13_positive_0 19 rfl rfl)
theorem dX13_positive_21 : decode cX13_positive 21 = .ok (.invokevirtual 75, 3) := dk_182 0 75 (dk_at dksX13_positive_0 21 rfl rfl)
theorem dX13_positive_24 : decode cX13_positive 24 = .ok (.aload_n 0, 1) := dk_42 (dk_at dksX13_positive_1 0 rfl rfl)
theorem dX13_positive_25 : decode cX13_positive 25 = .ok (.dup, 1) := dk_89 (dk_at dksX13_positive_1 1 rfl rfl)
theorem dX13_positive_26 : decode cX13_positive 26 = .ok (.getfield 141, 3) := dk_180 0 141 (dk_at dksX13_positive_1 2 rfl rfl)
theorem dX13_positive_29 : decode cX13_positive 29 = .ok (.iconst 1, 1) := dk_4 (dk_at dksX13_positive_1 5 rfl rfl)
theorem dX13_positive_30 : decode cX13_positive 30 = .ok (.isub, 1) := dk_100 (dk_at dksX13_positive_1 6 rfl rfl)
theorem dX13_positive_31 : decode cX13_positive 31 = .ok (.putfield 141, 3) := dk_181 0 141 (dk_at dksX13_positive_1 7 rfl rfl)
theorem dX13_positive_34 : decode cX13_positive 34 = .ok (.aload_n 1, 1) := dk_43 (dk_at dksX13_positive_1 10 rfl rfl)
theorem dX13_positive_35 : decode cX13_positive 35 = .ok (.areturn, 1) := dk_176 (dk_at dksX13_positive_1 11 rfl rfl)
theorem dX13_positive_36 : decode cX13_positive 36 = .ok (.aload_n 0, 1) := dk_42 (dk_at dksX13_positive_1 12 rfl rfl)
theorem dX13_positive_37 : decode cX13_positive 37 = .ok (.invokevirtual 171, 3) := dk_182 0 171 (dk_at dksX13_positive_1 13 rfl rfl)
theorem dX13_positive_40 : decode cX13_positive 40 = .ok (.istore_n 1, 1) := dk_60 (dk_at dksX13_positive_1 16 rfl rfl)
theorem dX13_positive_41 : decode cX13_positive 41 = .ok (.iload_n 1, 1) := dk_27 (dk_at dksX13_positive_1 17 rfl rfl)
theorem dX13_positive_42 : decode cX13_positive 42 = .ok (.iconst (-1), 1) := dk_2 (dk_at dksX13_positive_1 18 rfl rfl)
theorem dX13_positive_43 : decode cX13_positive 43 = .ok (.if_icmp .eq 20, 3) := dk_159 0 20 (dk_at dksX13_positive_1 19 rfl rfl)
theorem dX13_positive_46 : decode cX13_positive 46 = .ok (.aload_n 0, 1) := dk_42 (dk_at dksX13_positive_1 22 rfl rfl)
theorem dX13_positive_47 : decode cX13_positive 47 = .ok (.invokevirtual 174, 3) := dk_182 0 174 (dk_at dksX13_positive_2 0 rfl rfl)
theorem dX13_positive_50 : decode cX13_positive 50 = .ok (.aload_n 0, 1) := dk_42 (dk_at dksX13_positive_2 3 rfl rfl)
theorem dX13_positive_51 : decode cX13_positive 51 = .ok (.invokevirtual 52, 3) := dk_182 0 52 (dk_at dksX13_positive_2 4 rfl rfl)
theorem dX13_positive_54 : decode cX13_positive 54 = .ok (.new 177, 3) := dk_187 0 177 (dk_at dksX13_positive_2 7 rfl rfl)
theorem dX13_positive_57 : decode cX13_positive 57 = .ok (.dup, 1) := dk_89 (dk_at dksX13_positive_2 10 rfl rfl)
theorem dX13_positive_58 : decode cX13_positive 58 = .ok (.iload_n 1, 1) := dk_27 (dk_at dksX13_positive_2 11 rfl rfl)
theorem dX13_positive_59 : decode cX13_positive 59 = .ok (.invokespecial 179, 3) := dk_183 0 179 (dk_at dksX13_positive_2 12 rfl rfl)
theorem dX13_positive_62 : decode cX13_positive 62 = .ok (.areturn, 1) := dk_176 (dk_at dksX13_positive_2 15 rfl rfl)
theorem dX13_positive_63 : decode cX13_positive 63 = .ok (.aload_n 0, 1) := dk_42 (dk_at dksX13_positive_2 16 rfl rfl)
theorem dX13_positive_64 : decode cX13_positive 64 = .ok (.invokevirtual 116, 3) := dk_182 0 116 (dk_at dksX13_positive_2 17 rfl rfl)
theorem dX13_positive_67 : decode cX13_positive 67 = .ok (.astore_n 2, 1) := dk_77 (dk_at dksX13_positive_2 20 rfl rfl)
theorem dX13_positive_68 : decode cX13_positive 68 = .ok (.aload_n 0, 1) := dk_42 (dk_at dksX13_positive_2 21 rfl rfl)
theorem dX13_positive_69 : decode cX13_positive 69 = .ok (.ldc 180, 2) := dk_18 180 (dk_at dksX13_positive_2 22 rfl rfl)
theorem dX13_positive_71 : decode cX13_positive 71 = .ok (.invokevirtual 48, 3) := dk_182 0 48 (dk_at dksX13_positive_3 0 rfl rfl)
theorem dX13_positive_74 : decode cX13_positive 74 = .ok (.ifCond .ne 33, 3) := dk_154 0 33 (dk_at dksX13_positive_3 3 rfl rfl)
theorem dX13_positive_77 : decode cX13_positive 77 = .ok (.aload_n 0, 1) := dk_42 (dk_at dksX13_positive_3 6 rfl rfl)
theorem dX13_positive_78 : decode cX13_positive 78 = .ok (.ldc 182, 2) := dk_18 182 (dk_at dksX13_positive_3 7 rfl rfl)
theorem dX13_positive_80 : decode cX13_positive 80 = .ok (.invokevirtual 48, 3) := dk_182 0 48 (dk_at dksX13_positive_3 9 rfl rfl)
theorem dX13_positive_83 : decode cX13_positive 83 = .ok (.ifCond .ne 24, 3) := dk_154 0 24 (dk_at dksX13_positive_3 12 rfl rfl)
theorem dX13_positive_86 : decode cX13_positive 86 = .ok (.aload_n 0, 1) := dk_42 (dk_at dksX13_positive_3 15 rfl rfl)
theorem dX13_positive_87 : decode cX13_positive 87 = .ok (.ldc 184, 2) := dk_18 184 (dk_at dksX13_positive_3 16 rfl rfl)
theorem dX13_positive_89 : decode cX13_positive 89 = .ok (.invokevirtual 48, 3) := dk_182 0 48 (dk_at dksX13_positive_3 18 rfl rfl)
theorem dX13_positive_92 : decode cX13_positive 92 = .ok (.ifCond .ne 15, 3) := dk_154 0 15 (dk_at dksX13_positive_3 21 rfl rfl)
theorem dX13_positive_95 : decode cX13_positive 95 = .ok (.new 58, 3) := dk_187 0 58 (dk_at dksX13_positive_4 0 rfl rfl)
theorem dX13_positive_98 : decode cX13_positive 98 = .ok (.dup, 1) := dk_89 (dk_at dksX13_positive_4 3 rfl rfl)
theorem dX13_positive_99 : decode cX13_positive 99 = .ok (.aload_n 0, 1) := dk_42 (dk_at dksX13_positive_4 4 rfl rfl)
theorem dX13_positive_100 : decode cX13_positive 100 = .ok (.getfield 31, 3) := dk_180 0 31 (dk_at dksX13_positive_4 5 rfl rfl)
theorem dX13_positive_103 : decode cX13_positive 103 = .ok (.invokespecial 60, 3) := dk_183 0 60 (dk_at dksX13_positive_4 8 rfl rfl)
theorem dX13_positive_106 : decode cX13_positive 106 = .ok (.athrow, 1) := dk_191 (dk_at dksX13_positive_4 11 rfl rfl)
theorem dX13_positive_107 : decode cX13_positive 107 = .ok (.aload_n 0, 1) := dk_42 (dk_at dksX13_positive_4 12 rfl rfl)
theorem dX13_positive_108 : decode cX13_positive 108 = .ok (.getfield 20, 3) := dk_180 0 20 (dk_at dksX13_positive_4 13 rfl rfl)
theorem dX13_positive_111 : decode cX13_positive 111 = .ok (.aload_n 0, 1) := dk_42 (dk_at dksX13_positive_4 16 rfl rfl)
theorem dX13_positive_112 : decode cX13_positive 112 = .ok (.getfield 31, 3) := dk_180 0 31 (dk_at dksX13_positive_4 17 rfl rfl)
theorem dX13_positive_115 : decode cX13_positive 115 = .ok (.baload, 1) := dk_51 (dk_at dksX13_positive_4 20 rfl rfl)
theorem dX13_positive_116 : decode cX13_positive 116 = .ok (.i2c, 1) := dk_146 (dk_at dksX13_positive_4 21 rfl rfl)
theorem dX13_positive_117 : decode cX13_positive 117 = .ok (.istore_n 3, 1) := dk_62 (dk_at dksX13_positive_4 22 rfl rfl)
theorem dX13_positive_118 : decode cX13_positive 118 = .ok (.aload_n 0, 1) := dk_42 (dk_at dksX13_positive_4 23 rfl rfl)
theorem dX13_positive_119 : decode cX13_positive 119 = .ok (.invokevirtual 52, 3) := dk_182 0 52 (dk_at dksX13_positive_5 0 rfl rfl)
theorem dX13_positive_122 : decode cX13_positive 122 = .ok (.new 186, 3) := dk_187 0 186 (dk_at dksX13_positive_5 3 rfl rfl)
theorem dX13_positive_125 : decode cX13_positive 125 = .ok (.dup, 1) := dk_89 (dk_at dksX13_positive_5 6 rfl rfl)
theorem dX13_positive_126 : decode cX13_positive 126 = .ok (.iload_n 3, 1) := dk_29 (dk_at dksX13_positive_5 7 rfl rfl)
theorem dX13_positive_127 : decode cX13_positive 127 = .ok (.aload_n 2, 1) := dk_44 (dk_at dksX13_positive_5 8 rfl rfl)
theorem dX13_positive_128 : decode cX13_positive 128 = .ok (.aload_n 0, 1) := dk_42 (dk_at dksX13_positive_5 9 rfl rfl)
theorem dX13_positive_129 : decode cX13_positive 129 = .ok (.invokevirtual 116, 3) := dk_182 0 116 (dk_at dksX13_positive_5 10 rfl rfl)
theorem dX13_positive_132 : decode cX13_positive 132 = .ok (.invokespecial 188, 3) := dk_183 0 188 (dk_at dksX13_positive_5 13 rfl rfl)
theorem dX13_positive_135 : decode cX13_positive 135 = .ok (.areturn, 1) := dk_176 (dk_at dksX13_positive_5 16 rfl rfl)
def dkwX13_flag_2 : List UInt8 := [182, 0, 48, 153, 0, 7, 7, 167, 0, 4, 2, 172]
abbrev dktX13_flag_2 : List UInt8 := dkwX13_flag_2 ++ []
def dkwX13_flag_1 : List UInt8 := [18, 158, 182, 0, 48, 153, 0, 5, 5, 172, 42, 18, 160, 182, 0, 48, 153, 0, 5, 6, 172, 42, 18, 162]
abbrev dktX13_flag_1 : List UInt8 := dkwX13_flag_1 ++ dktX13_flag_2
def dkwX13_flag_0 : List UInt8 := [42, 18, 154, 182, 0, 48, 153, 0, 5, 3, 172, 42, 18, 156, 182, 0, 48, 153, 0, 5, 4, 172, 42]
abbrev dktX13_flag_0 : List UInt8 := dkwX13_flag_0 ++ dktX13_flag_1
theorem dksX13_flag_0 : cX13_flag.data.toList.drop 0 = dktX13_flag_0 := by decide +kernel
theorem dksX13_flag_1 : cX13_flag.data.toList.drop 23 = dktX13_flag_1 := dk_seg dksX13_flag_0 23 rfl rfl
theorem dksX13_flag_2 : cX13_flag.data.toList.drop 47 = dktX13_flag_2 := dk_seg dksX13_flag_1 24 rfl rfl
theorem dX13_flag_0 : decode cX13_flag 0 = .ok (.aload_n 0, 1) := dk_42 (dk_at dksX13_flag_0 0 rfl rfl)
theorem dX13_flag_1 : decode cX13_flag 1 = .ok (.ldc 154, 2) := dk_18 154 (dk_at dksX13_flag_0 1 rfl rfl)
theorem dX13_flag_3 : decode cX13_flag 3 = .ok (.invokevirtual 48, 3) := dk_182 0 48 (dk_at dksX13_flag_0 3 rfl rfl)
theorem dX13_flag_6 : decode cX13_flag 6 = .ok (.ifCond .eq 5, 3) := dk_153 0 5 (dk_at dksX13_flag_0 6 rfl rfl)
theorem dX13_flag_9 : decode cX13_flag 9 = .ok (.iconst 0, 1) := dk_3 (dk_at dksX13_flag_0 9 rfl rfl)
theorem dX13_flag_10 : decode cX13_flag 10 = .ok (.ireturn, 1) := dk_172 (dk_at dksX13_flag_0 10 rfl rfl)
theorem dX13_flag_11 : decode cX13_flag 11 = .ok (.aload_n 0, 1) := dk_42 (dk_at dksX13_flag_0 11 rfl rfl)
theorem dX13_flag_12 : decode cX13_flag 12 = .ok (.ldc 156, 2) := dk_18 156 (dk_at dksX13_flag_0 12 rfl rfl)
theorem dX13_flag_14 : decode cX13_flag 14 = .ok (.invokevirtual 48, 3) := dk_182 0 48 (dk_at dksX13_flag_0 14 rfl rfl)
theorem dX13_flag_17 : decode cX13_flag 17 = .ok (.ifCond .eq 5, 3) := dk_153 0 5 (dk_at dksX13_flag_0 17 rfl rfl)
theorem dX13_flag_20 : decode cX13_flag 20 = .ok (.iconst 1, 1) := dk_4 (dk_at dksX13_flag_0 20 rfl rfl)
theorem dX13_flag_21 : decode cX13_flag 21 = .ok (.ireturn, 1) := dk_172 (dk_at dksX13_flag_0 21 rfl rfl)
theorem dX13_flag_22 : decode cX13_flag 22 = .ok (.aload_n 0, 1) := dk_42 (dk_at dksX13_flag_0 22 rfl rfl)
theorem dX13_flag_23 : decode cX13_flag 23 = .ok (.ldc 158, 2) := dk_18 158 (dk_at dksX13_flag_1 0 rfl rfl)
theorem dX13_flag_25 : decode cX13_flag 25 = .ok (.invokevirtual 48, 3) := dk_182 0 48 (dk_at dksX13_flag_1 2 rfl rfl)
theorem dX13_flag_28 : decode cX13_flag 28 = .ok (.ifCond .eq 5, 3) := dk_153 0 5 (dk_at dksX13_flag_1 5 rfl rfl)
theorem dX13_flag_31 : decode cX13_flag 31 = .ok (.iconst 2, 1) := dk_5 (dk_at dksX13_flag_1 8 rfl rfl)
theorem dX13_flag_32 : decode cX13_flag 32 = .ok (.ireturn, 1) := dk_172 (dk_at dksX13_flag_1 9 rfl rfl)
theorem dX13_flag_33 : decode cX13_flag 33 = .ok (.aload_n 0, 1) := dk_42 (dk_at dksX13_flag_1 10 rfl rfl)
theorem dX13_flag_34 : decode cX13_flag 34 = .ok (.ldc 160, 2) := dk_18 160 (dk_at dksX13_flag_1 11 rfl rfl)
theorem dX13_flag_36 : decode cX13_flag 36 = .ok (.invokevirtual 48, 3) := dk_182 0 48 (dk_at dksX13_flag_1 13 rfl rfl)
theorem dX13_flag_39 : decode cX13_flag 39 = .ok (.ifCond .eq 5, 3) := dk_153 0 5 (dk_at dksX13_flag_1 16 rfl rfl)
theorem dX13_flag_42 : decode cX13_flag 42 = .ok (.iconst 3, 1) := dk_6 (dk_at dksX13_flag_1 19 rfl rfl)
theorem dX13_flag_43 : decode cX13_flag 43 = .ok (.ireturn, 1) := dk_172 (dk_at dksX13_flag_1 20 rfl rfl)
theorem dX13_flag_44 : decode cX13_flag 44 = .ok (.aload_n 0, 1) := dk_42 (dk_at dksX13_flag_1 21 rfl rfl)
theorem dX13_flag_45 : decode cX13_flag 45 = .ok (.ldc 162, 2) := dk_18 162 (dk_at dksX13_flag_1 22 rfl rfl)
theorem dX13_flag_47 : decode cX13_flag 47 = .ok (.invokevirtual 48, 3) := dk_182 0 48 (dk_at dksX13_flag_2 0 rfl rfl)
theorem dX13_flag_50 : decode cX13_flag 50 = .ok (.ifCond .eq 7, 3) := dk_153 0 7 (dk_at dksX13_flag_2 3 rfl rfl)
theorem dX13_flag_53 : decode cX13_flag 53 = .ok (.iconst 4, 1) := dk_7 (dk_at dksX13_flag_2 6 rfl rfl)
theorem dX13_flag_54 : decode cX13_flag 54 = .ok (.goto 4, 3) := dk_167 0 4 (dk_at dksX13_flag_2 7 rfl rfl)
theorem dX13_flag_57 : decode cX13_flag 57 = .ok (.iconst (-1), 1) := dk_2 (dk_at dksX13_flag_2 10 rfl rfl)
theorem dX13_flag_58 : decode cX13_flag 58 = .ok (.ireturn, 1) := dk_172 (dk_at dksX13_flag_2 11 rfl rfl)
def dkwX14_init_0 : List UInt8 := [42, 1, 1, 3, 3, 183, 0, 1, 42, 27, 181, 0, 7, 177]
abbrev dktX14_init_0 : List UInt8 := dkwX14_init_0 ++ []
theorem dksX14_init_0 : cX14_init.data.toList.drop 0 = dktX14_init_0 := by decide +kernel
theorem dX14_init_0 : decode cX14_init 0 = .ok (.aload_n 0, 1) := dk_42 (dk_at dksX14_init_0 0 rfl rfl)
theorem dX14_init_1 : decode cX14_init 1 = .ok (.aconst_null, 1) := dk_1 (dk_at dksX14_init_0 1 rfl rfl)
theorem dX14_init_2 : decode cX14_init 2 = .ok (.aconst_null, 1) := dk_1 (dk_at dksX14_init_0 2 rfl rfl)
theorem dX14_init_3 : decode cX14_init 3 = .ok (.iconst 0, 1) := dk_3 (dk_at dksX14_init_0 3 rfl rfl)
theorem dX14_init_4 : decode cX14_init 4 = .ok (.iconst 0, 1) := dk_3 (dk_at dksX14_init_0 4 rfl rfl)
theorem dX14_init_5 : decode cX14_init 5 = .ok (.invokespecial 1, 3) := dk_183 0 1 (dk_at dksX14_init_0 5 rfl rfl)
theorem dX14_init_8 : decode cX14_init 8 = .ok (.aload_n 0, 1) := dk_42 (dk_at dksX14_init_0 8 rfl rfl)
theorem dX14_init_9 : decode cX14_init 9 = .ok (.iload_n 1, 1) := dk_27 (dk_at dksX14_init_0 9 rfl rfl)
theorem dX14_init_10 : decode cX14_init 10 = .ok (.putfield 7, 3) := dk_181 0 7 (dk_at dksX14_init_0 10 rfl rfl)
theorem dX14_init_13 : decode cX14_init 13 = .ok (.return_, 1) := dk_177 (dk_at dksX14_init_0 13 rfl rfl)
def dkwJ14_charAt_0 : List UInt8 := [27, 42, 190, 184, 0, 9, 42, 27, 51, 17, 0, 255, 126, 146, 172]
abbrev dktJ14_charAt_0 : List UInt8 := dkwJ14_charAt_0 ++ []
theorem dksJ14_charAt_0 : cJ14_charAt.data.toList.drop 0 = dktJ14_charAt_0 := by decide +kernel
theorem dJ14_charAt_0 : decode cJ14_charAt 0 = .ok (.iload_n 1, 1) := dk_27 (dk_at dksJ14_charAt_0 0 rfl rfl)
theorem dJ14_charAt_1 : decode cJ14_charAt 1 = .ok (.aload_n 0, 1) := dk_42 (dk_at dksJ14_charAt_0 1 rfl rfl)
theorem dJ14_charAt_2 : decode cJ14_charAt 2 = .ok (.arraylength, 1) := dk_190 (dk_at dksJ14_charAt_0 2 rfl rfl)
theorem dJ14_charAt_3 : decode cJ14_charAt 3 = .ok (.invokestatic 9, 3) := dk_184 0 9 (dk_at dksJ14_charAt_0 3 rfl rfl)
theorem dJ14_charAt_6 : decode cJ14_charAt 6 = .ok (.aload_n 0, 1) := dk_42 (dk_at dksJ14_charAt_0 6 rfl rfl)
theorem dJ14_charAt_7 : decode cJ14_charAt 7 = .ok (.iload_n 1, 1) := dk_27 (dk_at dksJ14_charAt_0 7 rfl rfl)
theorem dJ14_charAt_8 : decode cJ14_charAt 8 = .ok (.baload, 1) := dk_51 (dk_at dksJ14_charAt_0 8 rfl rfl)
theorem dJ14_charAt_9 : decode cJ14_charAt 9 = .ok (.sipush 255, 3) := dk_17 0 255 (dk_at dksJ14_charAt_0 9 rfl rfl)
theorem dJ14_charAt_12 : decode cJ14_charAt 12 = .ok (.iand, 1) := dk_126 (dk_at dksJ14_charAt_0 12 rfl rfl)
theorem dJ14_charAt_13 : decode cJ14_charAt 13 = .ok (.i2c, 1) := dk_146 (dk_at dksJ14_charAt_0 13 rfl rfl)
theorem dJ14_charAt_14 : decode cJ14_charAt 14 = .ok (.ireturn, 1) := dk_172 (dk_at dksJ14_charAt_0 14 rfl rfl)
def dkwJ15_charAt_0 : List UInt8 := [27, 42, 184, 0, 67, 42, 27, 184, 0, 71, 172]
abbrev dktJ15_charAt_0 : List UInt8 := dkwJ15_charAt_0 ++ []
theorem dksJ15_charAt_0 : cJ15_charAt.data.toList.drop 0 = dktJ15_charAt_0 := by decide +kernel
theorem dJ15_charAt_0 : decode cJ15_charAt 0 = .ok (.iload_n 1, 1) := dk_27 (dk_at dksJ15_charAt_0 0 rfl rfl)
theorem dJ15_charAt_1 : decode cJ15_charAt 1 = .ok (.aload_n 0, 1) := dk_42 (dk_at dksJ15_charAt_0 1 rfl rfl)
theorem dJ15_charAt_2 : decode cJ15_charAt 2 = .ok (.invokestatic 67, 3) := dk_184 0 67 (dk_at dksJ15_charAt_0 2 rfl rfl)
theorem dJ15_charAt_5 : decode cJ15_charAt 5 = .ok (.aload_n 0, 1) := dk_42 (dk_at dksJ15_charAt_0 5 rfl rfl)
theorem dJ15_charAt_6 : decode cJ15_charAt 6 = .ok (.iload_n 1, 1) := dk_27 (dk_at dksJ15_charAt_0 6 rfl rfl)
theorem dJ15_charAt_7 : decode cJ15_charAt 7 = .ok (.invokestatic 71, 3) := dk_184 0 71 (dk_at dksJ15_charAt_0 7 rfl rfl)
theorem dJ15_charAt_10 : decode cJ15_charAt 10 = .ok (.ireturn, 1) := dk_172 (dk_at dksJ15_charAt_0 10 rfl rfl)
def dkwJ15_checkIndex_0 : List UInt8 := [26, 43, 184, 0, 48, 184, 1, 158, 177]
abbrev dktJ15_checkIndex_0 : List UInt8 := dkwJ15_checkIndex_0 ++ []
theorem dksJ15_checkIndex_0 : cJ15_checkIndex.data.toList.drop 0 = dktJ15_checkIndex_0 := by decide +kernel
theorem dJ15_checkIndex_0 : decode cJ15_checkIndex 0 = .ok (.iload_n 0, 1) := dk_26 (dk_at dksJ15_checkIndex_0 0 rfl rfl)
theorem dJ15_checkIndex_1 : decode cJ15_checkIndex 1 = .ok (.aload_n 1, 1) := dk_43 (dk_at dksJ15_checkIndex_0 1 rfl rfl)
theorem dJ15_checkIndex_2 : decode cJ15_checkIndex 2 = .ok (.invokestatic 48, 3) := dk_184 0 48 (dk_at dksJ15_checkIndex_0 2 rfl rfl)
theorem dJ15_checkIndex_5 : decode cJ15_checkIndex 5 = .ok (.invokestatic 414, 3) := dk_184 1 158 (dk_at dksJ15_checkIndex_0 5 rfl rfl)
theorem dJ15_checkIndex_8 : decode cJ15_checkIndex 8 = .ok (.return_, 1) := dk_177 (dk_at dksJ15_checkIndex_0 8 rfl rfl)
def dkwJ15_length_0 : List UInt8 := [42, 190, 4, 122, 172]
abbrev dktJ15_length_0 : List UInt8 := dkwJ15_length_0 ++ []
theorem dksJ15_length_0 : cJ15_length.data.toList.drop 0 = dktJ15_length_0 := by decide +kernel
theorem dJ15_length_0 : decode cJ15_length 0 = .ok (.aload_n 0, 1) := dk_42 (dk_at dksJ15_length_0 0 rfl rfl)
theorem dJ15_length_1 : decode cJ15_length 1 = .ok (.arraylength, 1) := dk_190 (dk_at dksJ15_length_0 1 rfl rfl)
theorem dJ15_length_2 : decode cJ15_length 2 = .ok (.iconst 1, 1) := dk_4 (dk_at dksJ15_length_0 2 rfl rfl)
theorem dJ15_length_3 : decode cJ15_length 3 = .ok (.ishr, 1) := dk_122 (dk_at dksJ15_length_0 3 rfl rfl)
theorem dJ15_length_4 : decode cJ15_length 4 = .ok (.ireturn, 1) := dk_172 (dk_at dksJ15_length_0 4 rfl rfl)
def dkwJ15_getChar_2 : List UInt8 := [51, 17, 0, 255, 126, 178, 0, 63, 120, 128, 146, 172]
abbrev dktJ15_getChar_2 : List UInt8 := dkwJ15_getChar_2 ++ []
def dkwJ15_getChar_1 : List UInt8 := [183, 0, 56, 191, 27, 4, 120, 60, 42, 27, 132, 1, 1, 51, 17, 0, 255, 126, 178, 0, 59, 120, 42, 27]
abbrev dktJ15_getChar_1 : List UInt8 := dkwJ15_getChar_1 ++ dktJ15_getChar_2
def dkwJ15_getChar_0 : List UInt8 := [178, 0, 44, 154, 0, 25, 27, 155, 0, 11, 27, 42, 184, 0, 48, 161, 0, 13, 187, 0, 52, 89, 18, 54]
abbrev dktJ15_getChar_0 : List UInt8 := dkwJ15_getChar_0 ++ dktJ15_getChar_1
theorem dksJ15_getChar_0 : cJ15_getChar.data.toList.drop 0 = dktJ15_getChar_0 := by decide +kernel
theorem dksJ15_getChar_1 : cJ15_getChar.data.toList.drop 24 = dktJ15_getChar_1 := dk_seg dksJ15_getChar_0 24 rfl rfl
theorem dksJ15_getChar_2 : cJ15_getChar.data.toList.drop 48 = dktJ15_getChar_2 := dk_seg dksJ15_getChar_1 24 rfl rfl
theorem dJ15_getChar_0 : decode cJ15_getChar 0 = .ok (.getstatic 44, 3) := dk_178 0 44 (dk_at dksJ15_getChar_0 0 rfl rfl)
theorem dJ15_getChar_3 : decode cJ15_getChar 3 = .ok (.ifCond .ne 25, 3) := dk_154 0 25 (dk_at dksJ15_getChar_0 3 rfl rfl)
theorem dJ15_getChar_6 : decode cJ15_getChar 6 = .ok (.iload_n 1, 1) := dk_27 (dk_at dksJ15_getChar_0 6 rfl rfl)
theorem dJ15_getChar_7 : decode cJ15_getChar 7 = .ok (.ifCond .lt 11, 3) := dk_155 0 11 (dk_at dksJ15_getChar_0 7 rfl rfl)
theorem dJ15_getChar_10 : decode cJ15_getChar 10 = .ok (.iload_n 1, 1) := dk_27 (dk_at dksJ15_getChar_0 10 rfl rfl)
theorem dJ15_getChar_11 : decode cJ15_getChar 11 = .ok (.aload_n 0, 1) := dk_42 (dk_at dksJ15_getChar_0 11 rfl rfl)
theorem dJ15_getChar_12 : decode cJ15_getChar 12 = .ok (.invokestatic 48, 3) := dk_184 0 48 (dk_at dksJ15_getChar_0 12 rfl rfl)
theorem dJ15_getChar_15 : decode cJ15_getChar 15 = .ok (.if_icmp .lt 13, 3) := dk_161 0 13 (dk_at dksJ15_getChar_0 15 rfl rfl)
theorem dJ15_getChar_18 : decode cJ15_getChar 18 = .ok (.new 52, 3) := dk_187 0 52 (dk_at dksJ15_getChar_0 18 rfl rfl)
theorem dJ15_getChar_21 : decode cJ15_getChar 21 = .ok (.dup, 1) := dk_89 (dk_at dksJ15_getChar_0 21 rfl rfl)
theorem dJ15_getChar_22 : decode cJ15_getChar 22 = .ok (.ldc 54, 2) := dk_18 54 (dk_at dksJ15_getChar_0 22 rfl rfl)
theorem dJ15_getChar_24 : decode cJ15_getChar 24 = .ok (.invokespecial 56, 3) := dk_183 0 56 (dk_at dksJ15_getChar_1 0 rfl rfl)
theorem dJ15_getChar_27 : decode cJ15_getChar 27 = .ok (.athrow, 1) := dk_191 (dk_at dksJ15_getChar_1 3 rfl rfl)
theorem dJ15_getChar_28 : decode cJ15_getChar 28 = .ok (.iload_n 1, 1) := dk_27 (dk_at dksJ15_getChar_1 4 rfl rfl)
theorem dJ15_getChar_29 : decode cJ15_getChar 29 = .ok (.iconst 1, 1) := dk_4 (dk_at dksJ15_getChar_1 5 rfl rfl)
theorem dJ15_getChar_30 : decode cJ15_getChar 30 = .ok (.ishl, 1) := dk_120 (dk_at dksJ15_getChar_1 6 rfl rfl)
theorem dJ15_getChar_31 : decode cJ15_getChar 31 = .ok (.istore_n 1, 1) := dk_60 (dk_at dksJ15_getChar_1 7 rfl rfl)
theorem dJ15_getChar_32 : decode cJ15_getChar 32 = .ok (.aload_n 0, 1) := dk_42 (dk_at dksJ15_getChar_1 8 rfl rfl)
theorem dJ15_getChar_33 : decode cJ15_getChar 33 = .ok (.iload_n 1, 1) := dk_27 (dk_at dksJ15_getChar_1 9 rfl rfl)
theorem dJ15_getChar_34 : decode cJ15_getChar 34 = .ok (.iinc 1 1, 3) := dk_132 1 1 (dk_at dksJ15_getChar_1 10 rfl rfl)
theorem dJ15_getChar_37 : decode cJ15_getChar 37 = .ok (.baload, 1) := dk_51 (dk_at dksJ15_getChar_1 13 rfl rfl)
theorem dJ15_getChar_38 : decode cJ15_getChar 38 = .ok (.sipush 255, 3) := dk_17 0 255 (dk_at dksJ15_getChar_1 14 rfl rfl)
theorem dJ15_getChar_41 : decode cJ15_getChar 41 = .ok (.iand, 1) := dk_126 (dk_at dksJ15_getChar_1 17 rfl rfl)
theorem dJ15_getChar_42 : decode cJ15_getChar 42 = .ok (.getstatic 59, 3) := dk_178 0 59 (dk_at dksJ15_getChar_1 18 rfl rfl)
theorem dJ15_getChar_45 : decode cJ15_getChar 45 = .ok (.ishl, 1) := dk_120 (dk_at dksJ15_getChar_1 21 rfl rfl)
theorem dJ15_getChar_46 : decode cJ15_getChar 46 = .ok (.aload_n 0, 1) := dk_42 (dk_at dksJ15_getChar_1 22 rfl rfl)
theorem dJ15_getChar_47 : decode cJ15_getChar 47 = .ok (.iload_n 1, 1) := dk_27 (dk_at dksJ15_getChar_1 23 rfl rfl)
theorem dJ15_getChar_48 : decode cJ15_getChar 48 = .ok (.baload, 1) := dk_51 (dk_at dksJ15_getChar_2 0 rfl rfl)
theorem dJ15_getChar_49 : decode cJ15_getChar 49 = .ok (.sipush 255, 3) := dk_17 0 255 (dk_at dksJ15_getChar_2 1 rfl rfl)
theorem dJ15_getChar_52 : decode cJ15_getChar 52 = .ok (.iand, 1) := dk_126 (dk_at dksJ15_getChar_2 4 rfl rfl)
theorem dJ15_getChar_53 : decode cJ15_getChar 53 = .ok (.getstatic 63, 3) := dk_178 0 63 (dk_at dksJ15_getChar_2 5 rfl rfl)
theorem dJ15_getChar_56 : decode cJ15_getChar 56 = .ok (.ishl, 1) := dk_120 (dk_at dksJ15_getChar_2 8 rfl rfl)
theorem dJ15_getChar_57 : decode cJ15_getChar 57 = .ok (.ior, 1) := dk_128 (dk_at dksJ15_getChar_2 9 rfl rfl)
theorem dJ15_getChar_58 : decode cJ15_getChar 58 = .ok (.i2c, 1) := dk_146 (dk_at dksJ15_getChar_2 10 rfl rfl)
theorem dJ15_getChar_59 : decode cJ15_getChar 59 = .ok (.ireturn, 1) := dk_172 (dk_at dksJ15_getChar_2 11 rfl rfl)
def dkwX15_init_0 : List UInt8 := [42, 183, 0, 3, 42, 27, 181, 0, 9, 42, 28, 181, 0, 15, 42, 29, 181, 0, 18, 177]
abbrev dktX15_init_0 : List UInt8 := dkwX15_init_0 ++ []
theorem dksX15_init_0 : cX15_init.data.toList.drop 0 = dktX15_init_0 := by decide +kernel
theorem dX15_init_0 : decode cX15_init 0 = .ok (.aload_n 0, 1) := dk_42 (dk_at dksX15_init_0 0 rfl rfl)
theorem dX15_init_1 : decode cX15_init 1 = .ok (.invokespecial 3, 3) := dk_183 0 3 (dk_at dksX15_init_0 1 rfl rfl)
theorem dX15_init_4 : decode cX15_init 4 = .ok (.aload_n 0, 1) := dk_42 (dk_at dksX15_init_0 4 rfl rfl)
theorem dX15_init_5 : decode cX15_init 5 = .ok (.iload_n 1, 1) := dk_27 (dk_at dksX15_init_0 5 rfl rfl)
theorem dX15_init_6 : decode cX15_init 6 = .ok (.putfield 9, 3) := dk_181 0 9 (dk_at dksX15_init_0 6 rfl rfl)
theorem dX15_init_9 : decode cX15_init 9 = .ok (.aload_n 0, 1) := dk_42 (dk_at dksX15_init_0 9 rfl rfl)
theorem dX15_init_10 : decode cX15_init 10 = .ok (.iload_n 2, 1) := dk_28 (dk_at dksX15_init_0 10 rfl rfl)
theorem dX15_init_11 : decode cX15_init 11 = .ok (.putfield 15, 3) := dk_181 0 15 (dk_at dksX15_init_0 11 rfl rfl)
theorem dX15_init_14 : decode cX15_init 14 = .ok (.aload_n 0, 1) := dk_42 (dk_at dksX15_init_0 14 rfl rfl)
theorem dX15_init_15 : decode cX15_init 15 = .ok (.iload_n 3, 1) := dk_29 (dk_at dksX15_init_0 15 rfl rfl)
theorem dX15_init_16 : decode cX15_init 16 = .ok (.putfield 18, 3) := dk_181 0 18 (dk_at dksX15_init_0 16 rfl rfl)
theorem dX15_init_19 : decode cX15_init 19 = .ok (.return_, 1) := dk_177 (dk_at dksX15_init_0 19 rfl rfl)
def dkwX15_tells_1 : List UInt8 := [180, 0, 33, 199, 0, 7, 9, 167, 0, 11, 42, 180, 0, 33, 43, 182, 0, 37, 173, 77, 20, 0, 31, 173]
abbrev dktX15_tells_1 : List UInt8 := dkwX15_tells_1 ++ []
def dkwX15_tells_0 : List UInt8 := [42, 180, 0, 21, 198, 0, 18, 42, 180, 0, 21, 43, 182, 0, 25, 154, 0, 7, 20, 0, 31, 173, 42]
abbrev dktX15_tells_0 : List UInt8 := dkwX15_tells_0 ++ dktX15_tells_1
theorem dksX15_tells_0 : cX15_tells.data.toList.drop 0 = dktX15_tells_0 := by decide +kernel
theorem dksX15_tells_1 : cX15_tells.data.toList.drop 23 = dktX15_tells_1 := dk_seg dksX15_tells_0 23 rfl rfl
theorem dX15_tells_0 : decode cX15_tells 0 = .ok (.aload_n 0, 1) := dk_42 (dk_at dksX15_tells_0 0 rfl rfl)
theorem dX15_tells_1 : decode cX15_tells 1 = .ok (.getfield 21, 3) := dk_180 0 21 (dk_at dksX15_tells_0 1 rfl rfl)
theorem dX15_tells_4 : decode cX15_tells 4 = .ok (.ifnull 18, 3) := dk_198 0 18 (dk_at dksX15_tells_0 4 rfl rfl)
theorem dX15_tells_7 : decode cX15_tells 7 = .ok (.aload_n 0, 1) := dk_42 (dk_at dksX15_tells_0 7 rfl rfl)
theorem dX15_tells_8 : decode cX15_tells 8 = .ok (.getfield 21, 3) := dk_180 0 21 (dk_at dksX15_tells_0 8 rfl rfl)
theorem dX15_tells_11 : decode cX15_tells 11 = .ok (.aload_n 1, 1) := dk_43 (dk_at dksX15_tells_0 11 rfl rfl)
theorem dX15_tells_12 : decode cX15_tells 12 = .ok (.invokevirtual 25, 3) := dk_182 0 25 (dk_at dksX15_tells_0 12 rfl rfl)
theorem dX15_tells_15 : decode cX15_tells 15 = .ok (.ifCond .ne 7, 3) := dk_154 0 7 (dk_at dksX15_tells_0 15 rfl rfl)
theorem dX15_tells_18 : decode cX15_tells 18 = .ok (.ldc2_w 31, 3) := dk_20 0 31 (dk_at dksX15_tells_0 18 rfl rfl)
theorem dX15_tells_21 : decode cX15_tells 21 = .ok (.lreturn, 1) := dk_173 (dk_at dksX15_tells_0 21 rfl rfl)
theorem dX15_tells_22 : decode cX15_tells 22 = .ok (.aload_n 0, 1) := dk_42 (dk_at dksX15_tells_0 22 rfl rfl)
theorem dX15_tells_23 : decode cX15_tells 23 = .ok (.getfield 33, 3) := dk_180 0 33 (dk_at dksX15_tells_1 0 rfl rfl)
theorem dX15_tells_26 : decode cX15_tells 26 = .ok (.ifnonnull 7, 3) := dk_199 0 7 (dk_at dksX15_tells_1 3 rfl rfl)
theorem dX15_tells_29 : decode cX15_tells 29 = .ok (.lconst 0, 1) := dk_9 (dk_at dksX15_tells_1 6 rfl rfl)
theorem dX15_tells_30 : decode cX15_tells 30 = .ok (.goto 11, 3) := dk_167 0 11 (dk_at dksX15_tells_1 7 rfl rfl)
theorem dX15_tells_33 : decode cX15_tells 33 = .ok (.aload_n 0, 1) := dk_42 (dk_at dksX15_tells_1 10 rfl rfl)
theorem dX15_tells_34 : decode cX15_tells 34 = .ok (.getfield 33, 3) := dk_180 0 33 (dk_at dksX15_tells_1 11 rfl rfl)
theorem dX15_tells_37 : decode cX15_tells 37 = .ok (.aload_n 1, 1) := dk_43 (dk_at dksX15_tells_1 14 rfl rfl)
theorem dX15_tells_38 : decode cX15_tells 38 = .ok (.invokevirtual 37, 3) := dk_182 0 37 (dk_at dksX15_tells_1 15 rfl rfl)
theorem dX15_tells_41 : decode cX15_tells 41 = .ok (.lreturn, 1) := dk_173 (dk_at dksX15_tells_1 18 rfl rfl)
theorem dX15_tells_42 : decode cX15_tells 42 = .ok (.astore_n 2, 1) := dk_77 (dk_at dksX15_tells_1 19 rfl rfl)
theorem dX15_tells_43 : decode cX15_tells 43 = .ok (.ldc2_w 31, 3) := dk_20 0 31 (dk_at dksX15_tells_1 20 rfl rfl)
theorem dX15_tells_46 : decode cX15_tells 46 = .ok (.lreturn, 1) := dk_173 (dk_at dksX15_tells_1 23 rfl rfl)
theorem dX16_init_0 : decode cX16_init 0 = .ok (.aload_n 0, 1) := by decide +kernel
theorem dX16_init_1 : decode cX16_init 1 = .ok (.invokespecial 1, 3) := by decide +kernel
theorem dX16_init_4 : decode cX16_init 4 = .ok (.return_, 1) := by decide +kernel
def dkwX17_init_0 : List UInt8 := [42, 183, 0, 1, 42, 27, 181, 0, 7, 177]
abbrev dktX17_init_0 : List UInt8 := dkwX17_init_0 ++ []
theorem dksX17_init_0 : cX17_init.data.toList.drop 0 = dktX17_init_0 := by decide +kernel
theorem dX17_init_0 : decode cX17_init 0 = .ok (.aload_n 0, 1) := dk_42 (dk_at dksX17_init_0 0 rfl rfl)
theorem dX17_init_1 : decode cX17_init 1 = .ok (.invokespecial 1, 3) := dk_183 0 1 (dk_at dksX17_init_0 1 rfl rfl)
theorem dX17_init_4 : decode cX17_init 4 = .ok (.aload_n 0, 1) := dk_42 (dk_at dksX17_init_0 4 rfl rfl)
theorem dX17_init_5 : decode cX17_init 5 = .ok (.iload_n 1, 1) := dk_27 (dk_at dksX17_init_0 5 rfl rfl)
theorem dX17_init_6 : decode cX17_init 6 = .ok (.putfield 7, 3) := dk_181 0 7 (dk_at dksX17_init_0 6 rfl rfl)
theorem dX17_init_9 : decode cX17_init 9 = .ok (.return_, 1) := dk_177 (dk_at dksX17_init_0 9 rfl rfl)
def dkwX17_of_0 : List UInt8 := [42, 180, 0, 7, 133, 173]
abbrev dktX17_of_0 : List UInt8 := dkwX17_of_0 ++ []
theorem dksX17_of_0 : cX17_of.data.toList.drop 0 = dktX17_of_0 := by decide +kernel
theorem dX17_of_0 : decode cX17_of 0 = .ok (.aload_n 0, 1) := dk_42 (dk_at dksX17_of_0 0 rfl rfl)
theorem dX17_of_1 : decode cX17_of 1 = .ok (.getfield 7, 3) := dk_180 0 7 (dk_at dksX17_of_0 1 rfl rfl)
theorem dX17_of_4 : decode cX17_of 4 = .ok (.i2l, 1) := dk_133 (dk_at dksX17_of_0 4 rfl rfl)
theorem dX17_of_5 : decode cX17_of 5 = .ok (.lreturn, 1) := dk_173 (dk_at dksX17_of_0 5 rfl rfl)
def dkwX18_init_0 : List UInt8 := [42, 183, 0, 1, 42, 27, 181, 0, 7, 177]
abbrev dktX18_init_0 : List UInt8 := dkwX18_init_0 ++ []
theorem dksX18_init_0 : cX18_init.data.toList.drop 0 = dktX18_init_0 := by decide +kernel
theorem dX18_init_0 : decode cX18_init 0 = .ok (.aload_n 0, 1) := dk_42 (dk_at dksX18_init_0 0 rfl rfl)
theorem dX18_init_1 : decode cX18_init 1 = .ok (.invokespecial 1, 3) := dk_183 0 1 (dk_at dksX18_init_0 1 rfl rfl)
theorem dX18_init_4 : decode cX18_init 4 = .ok (.aload_n 0, 1) := dk_42 (dk_at dksX18_init_0 4 rfl rfl)
theorem dX18_init_5 : decode cX18_init 5 = .ok (.iload_n 1, 1) := dk_27 (dk_at dksX18_init_0 5 rfl rfl)
theorem dX18_init_6 : decode cX18_init 6 = .ok (.putfield 7, 3) := dk_181 0 7 (dk_at dksX18_init_0 6 rfl rfl)
theorem dX18_init_9 : decode cX18_init 9 = .ok (.return_, 1) := dk_177 (dk_at dksX18_init_0 9 rfl rfl)
def dkwX18_of_0 : List UInt8 := [43, 180, 0, 13, 42, 180, 0, 7, 47, 173]
abbrev dktX18_of_0 : List UInt8 := dkwX18_of_0 ++ []
theorem dksX18_of_0 : cX18_of.data.toList.drop 0 = dktX18_of_0 := by decide +kernel
theorem dX18_of_0 : decode cX18_of 0 = .ok (.aload_n 1, 1) := dk_43 (dk_at dksX18_of_0 0 rfl rfl)
theorem dX18_of_1 : decode cX18_of 1 = .ok (.getfield 13, 3) := dk_180 0 13 (dk_at dksX18_of_0 1 rfl rfl)
theorem dX18_of_4 : decode cX18_of 4 = .ok (.aload_n 0, 1) := dk_42 (dk_at dksX18_of_0 4 rfl rfl)
theorem dX18_of_5 : decode cX18_of 5 = .ok (.getfield 7, 3) := dk_180 0 7 (dk_at dksX18_of_0 5 rfl rfl)
theorem dX18_of_8 : decode cX18_of 8 = .ok (.laload, 1) := dk_47 (dk_at dksX18_of_0 8 rfl rfl)
theorem dX18_of_9 : decode cX18_of 9 = .ok (.lreturn, 1) := dk_173 (dk_at dksX18_of_0 9 rfl rfl)
def dkwX19_init_0 : List UInt8 := [42, 183, 0, 3, 42, 27, 181, 0, 9, 42, 44, 181, 0, 15, 42, 45, 181, 0, 19, 177]
abbrev dktX19_init_0 : List UInt8 := dkwX19_init_0 ++ []
theorem dksX19_init_0 : cX19_init.data.toList.drop 0 = dktX19_init_0 := by decide +kernel
theorem dX19_init_0 : decode cX19_init 0 = .ok (.aload_n 0, 1) := dk_42 (dk_at dksX19_init_0 0 rfl rfl)
theorem dX19_init_1 : decode cX19_init 1 = .ok (.invokespecial 3, 3) := dk_183 0 3 (dk_at dksX19_init_0 1 rfl rfl)
theorem dX19_init_4 : decode cX19_init 4 = .ok (.aload_n 0, 1) := dk_42 (dk_at dksX19_init_0 4 rfl rfl)
theorem dX19_init_5 : decode cX19_init 5 = .ok (.iload_n 1, 1) := dk_27 (dk_at dksX19_init_0 5 rfl rfl)
theorem dX19_init_6 : decode cX19_init 6 = .ok (.putfield 9, 3) := dk_181 0 9 (dk_at dksX19_init_0 6 rfl rfl)
theorem dX19_init_9 : decode cX19_init 9 = .ok (.aload_n 0, 1) := dk_42 (dk_at dksX19_init_0 9 rfl rfl)
theorem dX19_init_10 : decode cX19_init 10 = .ok (.aload_n 2, 1) := dk_44 (dk_at dksX19_init_0 10 rfl rfl)
theorem dX19_init_11 : decode cX19_init 11 = .ok (.putfield 15, 3) := dk_181 0 15 (dk_at dksX19_init_0 11 rfl rfl)
theorem dX19_init_14 : decode cX19_init 14 = .ok (.aload_n 0, 1) := dk_42 (dk_at dksX19_init_0 14 rfl rfl)
theorem dX19_init_15 : decode cX19_init 15 = .ok (.aload_n 3, 1) := dk_45 (dk_at dksX19_init_0 15 rfl rfl)
theorem dX19_init_16 : decode cX19_init 16 = .ok (.putfield 19, 3) := dk_181 0 19 (dk_at dksX19_init_0 16 rfl rfl)
theorem dX19_init_19 : decode cX19_init 19 = .ok (.return_, 1) := dk_177 (dk_at dksX19_init_0 19 rfl rfl)
def dkwX19_of_5 : List UInt8 := [191, 22, 6, 173]
abbrev dktX19_of_5 : List UInt8 := dkwX19_of_5 ++ []
def dkwX19_of_4 : List UInt8 := [55, 6, 22, 6, 20, 0, 32, 148, 157, 0, 12, 22, 6, 20, 0, 34, 148, 156, 0, 8, 43, 180, 0, 26]
abbrev dktX19_of_4 : List UInt8 := dkwX19_of_4 ++ dktX19_of_5
def dkwX19_of_3 : List UInt8 := [167, 0, 23, 42, 180, 0, 9, 16, 42, 160, 0, 10, 32, 22, 4, 105, 167, 0, 7, 32, 22, 4, 109]
abbrev dktX19_of_3 : List UInt8 := dkwX19_of_3 ++ dktX19_of_4
def dkwX19_of_2 : List UInt8 := [160, 0, 10, 32, 22, 4, 97, 167, 0, 39, 42, 180, 0, 9, 16, 45, 160, 0, 10, 32, 22, 4, 101]
abbrev dktX19_of_2 : List UInt8 := dkwX19_of_2 ++ dktX19_of_3
def dkwX19_of_1 : List UInt8 := [16, 47, 160, 0, 15, 22, 4, 9, 148, 154, 0, 8, 43, 180, 0, 26, 191, 42, 180, 0, 9, 16, 43]
abbrev dktX19_of_1 : List UInt8 := dkwX19_of_1 ++ dktX19_of_2
def dkwX19_of_0 : List UInt8 := [42, 180, 0, 15, 43, 182, 0, 22, 65, 42, 180, 0, 19, 43, 182, 0, 22, 55, 4, 42, 180, 0, 9]
abbrev dktX19_of_0 : List UInt8 := dkwX19_of_0 ++ dktX19_of_1
theorem dksX19_of_0 : cX19_of.data.toList.drop 0 = dktX19_of_0 := by decide +kernel
theorem dksX19_of_1 : cX19_of.data.toList.drop 23 = dktX19_of_1 := dk_seg dksX19_of_0 23 rfl rfl
theorem dksX19_of_2 : cX19_of.data.toList.drop 46 = dktX19_of_2 := dk_seg dksX19_of_1 23 rfl rfl
theorem dksX19_of_3 : cX19_of.data.toList.drop 69 = dktX19_of_3 := dk_seg dksX19_of_2 23 rfl rfl
theorem dksX19_of_4 : cX19_of.data.toList.drop 92 = dktX19_of_4 := dk_seg dksX19_of_3 23 rfl rfl
theorem dksX19_of_5 : cX19_of.data.toList.drop 116 = dktX19_of_5 := dk_seg dksX19_of_4 24 rfl rfl
theorem dX19_of_0 : decode cX19_of 0 = .ok (.aload_n 0, 1) := dk_42 (dk_at dksX19_of_0 0 rfl rfl)
theorem dX19_of_1 : decode cX19_of 1 = .ok (.getfield 15, 3) := dk_180 0 15 (dk_at dksX19_of_0 1 rfl rfl)
theorem dX19_of_4 : decode cX19_of 4 = .ok (.aload_n 1, 1) := dk_43 (dk_at dksX19_of_0 4 rfl rfl)
theorem dX19_of_5 : decode cX19_of 5 = .ok (.invokevirtual 22, 3) := dk_182 0 22 (dk_at dksX19_of_0 5 rfl rfl)
theorem dX19_of_8 : decode cX19_of 8 = .ok (.lstore_n 2, 1) := dk_65 (dk_at dksX19_of_0 8 rfl rfl)
theorem dX19_of_9 : decode cX19_of 9 = .ok (.aload_n 0, 1) := dk_42 (dk_at dksX19_of_0 9 rfl rfl)
theorem dX19_of_10 : decode cX19_of 10 = .ok (.getfield 19, 3) := dk_180 0 19 (dk_at dksX19_of_0 10 rfl rfl)
theorem dX19_of_13 : decode cX19_of 13 = .ok (.aload_n 1, 1) := dk_43 (dk_at dksX19_of_0 13 rfl rfl)
theorem dX19_of_14 : decode cX19_of 14 = .ok (.invokevirtual 22, 3) := dk_182 0 22 (dk_at dksX19_of_0 14 rfl rfl)
theorem dX19_of_17 : decode cX19_of 17 = .ok (.lstore 4, 2) := dk_55 4 (dk_at dksX19_of_0 17 rfl rfl)
theorem dX19_of_19 : decode cX19_of 19 = .ok (.aload_n 0, 1) := dk_42 (dk_at dksX19_of_0 19 rfl rfl)
theorem dX19_of_20 : decode cX19_of 20 = .ok (.getfield 9, 3) := dk_180 0 9 (dk_at dksX19_of_0 20 rfl rfl)
theorem dX19_of_23 : decode cX19_of 23 = .ok (.bipush 47, 2) := dk_16 47 (dk_at dksX19_of_1 0 rfl rfl)
theorem dX19_of_25 : decode cX19_of 25 = .ok (.if_icmp .ne 15, 3) := dk_160 0 15 (dk_at dksX19_of_1 2 rfl rfl)
theorem dX19_of_28 : decode cX19_of 28 = .ok (.lload 4, 2) := dk_22 4 (dk_at dksX19_of_1 5 rfl rfl)
theorem dX19_of_30 : decode cX19_of 30 = .ok (.lconst 0, 1) := dk_9 (dk_at dksX19_of_1 7 rfl rfl)
theorem dX19_of_31 : decode cX19_of 31 = .ok (.lcmp, 1) := dk_148 (dk_at dksX19_of_1 8 rfl rfl)
theorem dX19_of_32 : decode cX19_of 32 = .ok (.ifCond .ne 8, 3) := dk_154 0 8 (dk_at dksX19_of_1 9 rfl rfl)
theorem dX19_of_35 : decode cX19_of 35 = .ok (.aload_n 1, 1) := dk_43 (dk_at dksX19_of_1 12 rfl rfl)
theorem dX19_of_36 : decode cX19_of 36 = .ok (.getfield 26, 3) := dk_180 0 26 (dk_at dksX19_of_1 13 rfl rfl)
theorem dX19_of_39 : decode cX19_of 39 = .ok (.athrow, 1) := dk_191 (dk_at dksX19_of_1 16 rfl rfl)
theorem dX19_of_40 : decode cX19_of 40 = .ok (.aload_n 0, 1) := dk_42 (dk_at dksX19_of_1 17 rfl rfl)
theorem dX19_of_41 : decode cX19_of 41 = .ok (.getfield 9, 3) := dk_180 0 9 (dk_at dksX19_of_1 18 rfl rfl)
theorem dX19_of_44 : decode cX19_of 44 = .ok (.bipush 43, 2) := dk_16 43 (dk_at dksX19_of_1 21 rfl rfl)
theorem dX19_of_46 : decode cX19_of 46 = .ok (.if_icmp .ne 10, 3) := dk_160 0 10 (dk_at dksX19_of_2 0 rfl rfl)
theorem dX19_of_49 : decode cX19_of 49 = .ok (.lload_n 2, 1) := dk_32 (dk_at dksX19_of_2 3 rfl rfl)
theorem dX19_of_50 : decode cX19_of 50 = .ok (.lload 4, 2) := dk_22 4 (dk_at dksX19_of_2 4 rfl rfl)
theorem dX19_of_52 : decode cX19_of 52 = .ok (.ladd, 1) := dk_97 (dk_at dksX19_of_2 6 rfl rfl)
theorem dX19_of_53 : decode cX19_of 53 = .ok (.goto 39, 3) := dk_167 0 39 (dk_at dksX19_of_2 7 rfl rfl)
theorem dX19_of_56 : decode cX19_of 56 = .ok (.aload_n 0, 1) := dk_42 (dk_at dksX19_of_2 10 rfl rfl)
theorem dX19_of_57 : decode cX19_of 57 = .ok (.getfield 9, 3) := dk_180 0 9 (dk_at dksX19_of_2 11 rfl rfl)
theorem dX19_of_60 : decode cX19_of 60 = .ok (.bipush 45, 2) := dk_16 45 (dk_at dksX19_of_2 14 rfl rfl)
theorem dX19_of_62 : decode cX19_of 62 = .ok (.if_icmp .ne 10, 3) := dk_160 0 10 (dk_at dksX19_of_2 16 rfl rfl)
theorem dX19_of_65 : decode cX19_of 65 = .ok (.lload_n 2, 1) := dk_32 (dk_at dksX19_of_2 19 rfl rfl)
theorem dX19_of_66 : decode cX19_of 66 = .ok (.lload 4, 2) := dk_22 4 (dk_at dksX19_of_2 20 rfl rfl)
theorem dX19_of_68 : decode cX19_of 68 = .ok (.lsub, 1) := dk_101 (dk_at dksX19_of_2 22 rfl rfl)
theorem dX19_of_69 : decode cX19_of 69 = .ok (.goto 23, 3) := dk_167 0 23 (dk_at dksX19_of_3 0 rfl rfl)
theorem dX19_of_72 : decode cX19_of 72 = .ok (.aload_n 0, 1) := dk_42 (dk_at dksX19_of_3 3 rfl rfl)
theorem dX19_of_73 : decode cX19_of 73 = .ok (.getfield 9, 3) := dk_180 0 9 (dk_at dksX19_of_3 4 rfl rfl)
theorem dX19_of_76 : decode cX19_of 76 = .ok (.bipush 42, 2) := dk_16 42 (dk_at dksX19_of_3 7 rfl rfl)
theorem dX19_of_78 : decode cX19_of 78 = .ok (.if_icmp .ne 10, 3) := dk_160 0 10 (dk_at dksX19_of_3 9 rfl rfl)
theorem dX19_of_81 : decode cX19_of 81 = .ok (.lload_n 2, 1) := dk_32 (dk_at dksX19_of_3 12 rfl rfl)
theorem dX19_of_82 : decode cX19_of 82 = .ok (.lload 4, 2) := dk_22 4 (dk_at dksX19_of_3 13 rfl rfl)
theorem dX19_of_84 : decode cX19_of 84 = .ok (.lmul, 1) := dk_105 (dk_at dksX19_of_3 15 rfl rfl)
theorem dX19_of_85 : decode cX19_of 85 = .ok (.goto 7, 3) := dk_167 0 7 (dk_at dksX19_of_3 16 rfl rfl)
theorem dX19_of_88 : decode cX19_of 88 = .ok (.lload_n 2, 1) := dk_32 (dk_at dksX19_of_3 19 rfl rfl)
theorem dX19_of_89 : decode cX19_of 89 = .ok (.lload 4, 2) := dk_22 4 (dk_at dksX19_of_3 20 rfl rfl)
theorem dX19_of_91 : decode cX19_of 91 = .ok (.ldiv, 1) := dk_109 (dk_at dksX19_of_3 22 rfl rfl)
theorem dX19_of_92 : decode cX19_of 92 = .ok (.lstore 6, 2) := dk_55 6 (dk_at dksX19_of_4 0 rfl rfl)
theorem dX19_of_94 : decode cX19_of 94 = .ok (.lload 6, 2) := dk_22 6 (dk_at dksX19_of_4 2 rfl rfl)
theorem dX19_of_96 : decode cX19_of 96 = .ok (.ldc2_w 32, 3) := dk_20 0 32 (dk_at dksX19_of_4 4 rfl rfl)
theorem dX19_of_99 : decode cX19_of 99 = .ok (.lcmp, 1) := dk_148 (dk_at dksX19_of_4 7 rfl rfl)
theorem dX19_of_100 : decode cX19_of 100 = .ok (.ifCond .gt 12, 3) := dk_157 0 12 (dk_at dksX19_of_4 8 rfl rfl)
theorem dX19_of_103 : decode cX19_of 103 = .ok (.lload 6, 2) := dk_22 6 (dk_at dksX19_of_4 11 rfl rfl)
theorem dX19_of_105 : decode cX19_of 105 = .ok (.ldc2_w 34, 3) := dk_20 0 34 (dk_at dksX19_of_4 13 rfl rfl)
theorem dX19_of_108 : decode cX19_of 108 = .ok (.lcmp, 1) := dk_148 (dk_at dksX19_of_4 16 rfl rfl)
theorem dX19_of_109 : decode cX19_of 109 = .ok (.ifCond .ge 8, 3) := dk_156 0 8 (dk_at dksX19_of_4 17 rfl rfl)
theorem dX19_of_112 : decode cX19_of 112 = .ok (.aload_n 1, 1) := dk_43 (dk_at dksX19_of_4 20 rfl rfl)
theorem dX19_of_113 : decode cX19_of 113 = .ok (.getfield 26, 3) := dk_180 0 26 (dk_at dksX19_of_4 21 rfl rfl)
theorem dX19_of_116 : decode cX19_of 116 = .ok (.athrow, 1) := dk_191 (dk_at dksX19_of_5 0 rfl rfl)
theorem dX19_of_117 : decode cX19_of 117 = .ok (.lload 6, 2) := dk_22 6 (dk_at dksX19_of_5 1 rfl rfl)
theorem dX19_of_119 : decode cX19_of 119 = .ok (.lreturn, 1) := dk_173 (dk_at dksX19_of_5 3 rfl rfl)
theorem dX20_init_0 : decode cX20_init 0 = .ok (.aload_n 0, 1) := by decide +kernel
theorem dX20_init_1 : decode cX20_init 1 = .ok (.invokespecial 1, 3) := by decide +kernel
theorem dX20_init_4 : decode cX20_init 4 = .ok (.return_, 1) := by decide +kernel
def dkwX21_init_0 : List UInt8 := [42, 183, 0, 1, 42, 27, 181, 0, 7, 177]
abbrev dktX21_init_0 : List UInt8 := dkwX21_init_0 ++ []
theorem dksX21_init_0 : cX21_init.data.toList.drop 0 = dktX21_init_0 := by decide +kernel
theorem dX21_init_0 : decode cX21_init 0 = .ok (.aload_n 0, 1) := dk_42 (dk_at dksX21_init_0 0 rfl rfl)
theorem dX21_init_1 : decode cX21_init 1 = .ok (.invokespecial 1, 3) := dk_183 0 1 (dk_at dksX21_init_0 1 rfl rfl)
theorem dX21_init_4 : decode cX21_init 4 = .ok (.aload_n 0, 1) := dk_42 (dk_at dksX21_init_0 4 rfl rfl)
theorem dX21_init_5 : decode cX21_init 5 = .ok (.iload_n 1, 1) := dk_27 (dk_at dksX21_init_0 5 rfl rfl)
theorem dX21_init_6 : decode cX21_init 6 = .ok (.putfield 7, 3) := dk_181 0 7 (dk_at dksX21_init_0 6 rfl rfl)
theorem dX21_init_9 : decode cX21_init 9 = .ok (.return_, 1) := dk_177 (dk_at dksX21_init_0 9 rfl rfl)
def dkwX21_is_0 : List UInt8 := [43, 180, 0, 13, 42, 180, 0, 7, 51, 172]
abbrev dktX21_is_0 : List UInt8 := dkwX21_is_0 ++ []
theorem dksX21_is_0 : cX21_is.data.toList.drop 0 = dktX21_is_0 := by decide +kernel
theorem dX21_is_0 : decode cX21_is 0 = .ok (.aload_n 1, 1) := dk_43 (dk_at dksX21_is_0 0 rfl rfl)
theorem dX21_is_1 : decode cX21_is 1 = .ok (.getfield 13, 3) := dk_180 0 13 (dk_at dksX21_is_0 1 rfl rfl)
theorem dX21_is_4 : decode cX21_is 4 = .ok (.aload_n 0, 1) := dk_42 (dk_at dksX21_is_0 4 rfl rfl)
theorem dX21_is_5 : decode cX21_is 5 = .ok (.getfield 7, 3) := dk_180 0 7 (dk_at dksX21_is_0 5 rfl rfl)
theorem dX21_is_8 : decode cX21_is 8 = .ok (.baload, 1) := dk_51 (dk_at dksX21_is_0 8 rfl rfl)
theorem dX21_is_9 : decode cX21_is 9 = .ok (.ireturn, 1) := dk_172 (dk_at dksX21_is_0 9 rfl rfl)
def dkwX22_init_0 : List UInt8 := [42, 183, 0, 1, 42, 27, 181, 0, 7, 42, 44, 181, 0, 13, 42, 45, 181, 0, 17, 177]
abbrev dktX22_init_0 : List UInt8 := dkwX22_init_0 ++ []
theorem dksX22_init_0 : cX22_init.data.toList.drop 0 = dktX22_init_0 := by decide +kernel
theorem dX22_init_0 : decode cX22_init 0 = .ok (.aload_n 0, 1) := dk_42 (dk_at dksX22_init_0 0 rfl rfl)
theorem dX22_init_1 : decode cX22_init 1 = .ok (.invokespecial 1, 3) := dk_183 0 1 (dk_at dksX22_init_0 1 rfl rfl)
theorem dX22_init_4 : decode cX22_init 4 = .ok (.aload_n 0, 1) := dk_42 (dk_at dksX22_init_0 4 rfl rfl)
theorem dX22_init_5 : decode cX22_init 5 = .ok (.iload_n 1, 1) := dk_27 (dk_at dksX22_init_0 5 rfl rfl)
theorem dX22_init_6 : decode cX22_init 6 = .ok (.putfield 7, 3) := dk_181 0 7 (dk_at dksX22_init_0 6 rfl rfl)
theorem dX22_init_9 : decode cX22_init 9 = .ok (.aload_n 0, 1) := dk_42 (dk_at dksX22_init_0 9 rfl rfl)
theorem dX22_init_10 : decode cX22_init 10 = .ok (.aload_n 2, 1) := dk_44 (dk_at dksX22_init_0 10 rfl rfl)
theorem dX22_init_11 : decode cX22_init 11 = .ok (.putfield 13, 3) := dk_181 0 13 (dk_at dksX22_init_0 11 rfl rfl)
theorem dX22_init_14 : decode cX22_init 14 = .ok (.aload_n 0, 1) := dk_42 (dk_at dksX22_init_0 14 rfl rfl)
theorem dX22_init_15 : decode cX22_init 15 = .ok (.aload_n 3, 1) := dk_45 (dk_at dksX22_init_0 15 rfl rfl)
theorem dX22_init_16 : decode cX22_init 16 = .ok (.putfield 17, 3) := dk_181 0 17 (dk_at dksX22_init_0 16 rfl rfl)
theorem dX22_init_19 : decode cX22_init 19 = .ok (.return_, 1) := dk_177 (dk_at dksX22_init_0 19 rfl rfl)
def dkwX22_is_3 : List UInt8 := [154, 0, 7, 4, 167, 0, 4, 3, 172]
abbrev dktX22_is_3 : List UInt8 := dkwX22_is_3 ++ []
def dkwX22_is_2 : List UInt8 := [16, 62, 160, 0, 18, 32, 22, 4, 148, 158, 0, 7, 4, 167, 0, 19, 3, 167, 0, 15, 32, 22, 4, 148]
abbrev dktX22_is_2 : List UInt8 := dkwX22_is_2 ++ dktX22_is_3
def dkwX22_is_1 : List UInt8 := [16, 60, 160, 0, 18, 32, 22, 4, 148, 156, 0, 7, 4, 167, 0, 43, 3, 167, 0, 39, 42, 180, 0, 7]
abbrev dktX22_is_1 : List UInt8 := dkwX22_is_1 ++ dktX22_is_2
def dkwX22_is_0 : List UInt8 := [42, 180, 0, 13, 43, 182, 0, 20, 65, 42, 180, 0, 17, 43, 182, 0, 20, 55, 4, 42, 180, 0, 7]
abbrev dktX22_is_0 : List UInt8 := dkwX22_is_0 ++ dktX22_is_1
theorem dksX22_is_0 : cX22_is.data.toList.drop 0 = dktX22_is_0 := by decide +kernel
theorem dksX22_is_1 : cX22_is.data.toList.drop 23 = dktX22_is_1 := dk_seg dksX22_is_0 23 rfl rfl
theorem dksX22_is_2 : cX22_is.data.toList.drop 47 = dktX22_is_2 := dk_seg dksX22_is_1 24 rfl rfl
theorem dksX22_is_3 : cX22_is.data.toList.drop 71 = dktX22_is_3 := dk_seg dksX22_is_2 24 rfl rfl
theorem dX22_is_0 : decode cX22_is 0 = .ok (.aload_n 0, 1) := dk_42 (dk_at dksX22_is_0 0 rfl rfl)
theorem dX22_is_1 : decode cX22_is 1 = .ok (.getfield 13, 3) := dk_180 0 13 (dk_at dksX22_is_0 1 rfl rfl)
theorem dX22_is_4 : decode cX22_is 4 = .ok (.aload_n 1, 1) := dk_43 (dk_at dksX22_is_0 4 rfl rfl)
theorem dX22_is_5 : decode cX22_is 5 = .ok (.invokevirtual 20, 3) := dk_182 0 20 (dk_at dksX22_is_0 5 rfl rfl)
theorem dX22_is_8 : decode cX22_is 8 = .ok (.lstore_n 2, 1) := dk_65 (dk_at dksX22_is_0 8 rfl rfl)
theorem dX22_is_9 : decode cX22_is 9 = .ok (.aload_n 0, 1) := dk_42 (dk_at dksX22_is_0 9 rfl rfl)
theorem dX22_is_10 : decode cX22_is 10 = .ok (.getfield 17, 3) := dk_180 0 17 (dk_at dksX22_is_0 10 rfl rfl)
theorem dX22_is_13 : decode cX22_is 13 = .ok (.aload_n 1, 1) := dk_43 (dk_at dksX22_is_0 13 rfl rfl)
theorem dX22_is_14 : decode cX22_is 14 = .ok (.invokevirtual 20, 3) := dk_182 0 20 (dk_at dksX22_is_0 14 rfl rfl)
theorem dX22_is_17 : decode cX22_is 17 = .ok (.lstore 4, 2) := dk_55 4 (dk_at dksX22_is_0 17 rfl rfl)
theorem dX22_is_19 : decode cX22_is 19 = .ok (.aload_n 0, 1) := dk_42 (dk_at dksX22_is_0 19 rfl rfl)
theorem dX22_is_20 : decode cX22_is 20 = .ok (.getfield 7, 3) := dk_180 0 7 (dk_at dksX22_is_0 20 rfl rfl)
theorem dX22_is_23 : decode cX22_is 23 = .ok (.bipush 60, 2) := dk_16 60 (dk_at dksX22_is_1 0 rfl rfl)
theorem dX22_is_25 : decode cX22_is 25 = .ok (.if_icmp .ne 18, 3) := dk_160 0 18 (dk_at dksX22_is_1 2 rfl rfl)
theorem dX22_is_28 : decode cX22_is 28 = .ok (.lload_n 2, 1) := dk_32 (dk_at dksX22_is_1 5 rfl rfl)
theorem dX22_is_29 : decode cX22_is 29 = .ok (.lload 4, 2) := dk_22 4 (dk_at dksX22_is_1 6 rfl rfl)
theorem dX22_is_31 : decode cX22_is 31 = .ok (.lcmp, 1) := dk_148 (dk_at dksX22_is_1 8 rfl rfl)
theorem dX22_is_32 : decode cX22_is 32 = .ok (.ifCond .ge 7, 3) := dk_156 0 7 (dk_at dksX22_is_1 9 rfl rfl)
theorem dX22_is_35 : decode cX22_is 35 = .ok (.iconst 1, 1) := dk_4 (dk_at dksX22_is_1 12 rfl rfl)
theorem dX22_is_36 : decode cX22_is 36 = .ok (.goto 43, 3) := dk_167 0 43 (dk_at dksX22_is_1 13 rfl rfl)
theorem dX22_is_39 : decode cX22_is 39 = .ok (.iconst 0, 1) := dk_3 (dk_at dksX22_is_1 16 rfl rfl)
theorem dX22_is_40 : decode cX22_is 40 = .ok (.goto 39, 3) := dk_167 0 39 (dk_at dksX22_is_1 17 rfl rfl)
theorem dX22_is_43 : decode cX22_is 43 = .ok (.aload_n 0, 1) := dk_42 (dk_at dksX22_is_1 20 rfl rfl)
theorem dX22_is_44 : decode cX22_is 44 = .ok (.getfield 7, 3) := dk_180 0 7 (dk_at dksX22_is_1 21 rfl rfl)
theorem dX22_is_47 : decode cX22_is 47 = .ok (.bipush 62, 2) := dk_16 62 (dk_at dksX22_is_2 0 rfl rfl)
theorem dX22_is_49 : decode cX22_is 49 = .ok (.if_icmp .ne 18, 3) := dk_160 0 18 (dk_at dksX22_is_2 2 rfl rfl)
theorem dX22_is_52 : decode cX22_is 52 = .ok (.lload_n 2, 1) := dk_32 (dk_at dksX22_is_2 5 rfl rfl)
theorem dX22_is_53 : decode cX22_is 53 = .ok (.lload 4, 2) := dk_22 4 (dk_at dksX22_is_2 6 rfl rfl)
theorem dX22_is_55 : decode cX22_is 55 = .ok (.lcmp, 1) := dk_148 (dk_at dksX22_is_2 8 rfl rfl)
theorem dX22_is_56 : decode cX22_is 56 = .ok (.ifCond .le 7, 3) := dk_158 0 7 (dk_at dksX22_is_2 9 rfl rfl)
theorem dX22_is_59 : decode cX22_is 59 = .ok (.iconst 1, 1) := dk_4 (dk_at dksX22_is_2 12 rfl rfl)
theorem dX22_is_60 : decode cX22_is 60 = .ok (.goto 19, 3) := dk_167 0 19 (dk_at dksX22_is_2 13 rfl rfl)
theorem dX22_is_63 : decode cX22_is 63 = .ok (.iconst 0, 1) := dk_3 (dk_at dksX22_is_2 16 rfl rfl)
theorem dX22_is_64 : decode cX22_is 64 = .ok (.goto 15, 3) := dk_167 0 15 (dk_at dksX22_is_2 17 rfl rfl)
theorem dX22_is_67 : decode cX22_is 67 = .ok (.lload_n 2, 1) := dk_32 (dk_at dksX22_is_2 20 rfl rfl)
theorem dX22_is_68 : decode cX22_is 68 = .ok (.lload 4, 2) := dk_22 4 (dk_at dksX22_is_2 21 rfl rfl)
theorem dX22_is_70 : decode cX22_is 70 = .ok (.lcmp, 1) := dk_148 (dk_at dksX22_is_2 23 rfl rfl)
theorem dX22_is_71 : decode cX22_is 71 = .ok (.ifCond .ne 7, 3) := dk_154 0 7 (dk_at dksX22_is_3 0 rfl rfl)
theorem dX22_is_74 : decode cX22_is 74 = .ok (.iconst 1, 1) := dk_4 (dk_at dksX22_is_3 3 rfl rfl)
theorem dX22_is_75 : decode cX22_is 75 = .ok (.goto 4, 3) := dk_167 0 4 (dk_at dksX22_is_3 4 rfl rfl)
theorem dX22_is_78 : decode cX22_is 78 = .ok (.iconst 0, 1) := dk_3 (dk_at dksX22_is_3 7 rfl rfl)
theorem dX22_is_79 : decode cX22_is 79 = .ok (.ireturn, 1) := dk_172 (dk_at dksX22_is_3 8 rfl rfl)
def dkwX23_init_0 : List UInt8 := [42, 183, 0, 1, 42, 43, 181, 0, 7, 177]
abbrev dktX23_init_0 : List UInt8 := dkwX23_init_0 ++ []
theorem dksX23_init_0 : cX23_init.data.toList.drop 0 = dktX23_init_0 := by decide +kernel
theorem dX23_init_0 : decode cX23_init 0 = .ok (.aload_n 0, 1) := dk_42 (dk_at dksX23_init_0 0 rfl rfl)
theorem dX23_init_1 : decode cX23_init 1 = .ok (.invokespecial 1, 3) := dk_183 0 1 (dk_at dksX23_init_0 1 rfl rfl)
theorem dX23_init_4 : decode cX23_init 4 = .ok (.aload_n 0, 1) := dk_42 (dk_at dksX23_init_0 4 rfl rfl)
theorem dX23_init_5 : decode cX23_init 5 = .ok (.aload_n 1, 1) := dk_43 (dk_at dksX23_init_0 5 rfl rfl)
theorem dX23_init_6 : decode cX23_init 6 = .ok (.putfield 7, 3) := dk_181 0 7 (dk_at dksX23_init_0 6 rfl rfl)
theorem dX23_init_9 : decode cX23_init 9 = .ok (.return_, 1) := dk_177 (dk_at dksX23_init_0 9 rfl rfl)
def dkwX23_is_0 : List UInt8 := [42, 180, 0, 7, 43, 182, 0, 13, 154, 0, 7, 4, 167, 0, 4, 3, 172]
abbrev dktX23_is_0 : List UInt8 := dkwX23_is_0 ++ []
theorem dksX23_is_0 : cX23_is.data.toList.drop 0 = dktX23_is_0 := by decide +kernel
theorem dX23_is_0 : decode cX23_is 0 = .ok (.aload_n 0, 1) := dk_42 (dk_at dksX23_is_0 0 rfl rfl)
theorem dX23_is_1 : decode cX23_is 1 = .ok (.getfield 7, 3) := dk_180 0 7 (dk_at dksX23_is_0 1 rfl rfl)
theorem dX23_is_4 : decode cX23_is 4 = .ok (.aload_n 1, 1) := dk_43 (dk_at dksX23_is_0 4 rfl rfl)
theorem dX23_is_5 : decode cX23_is 5 = .ok (.invokevirtual 13, 3) := dk_182 0 13 (dk_at dksX23_is_0 5 rfl rfl)
theorem dX23_is_8 : decode cX23_is 8 = .ok (.ifCond .ne 7, 3) := dk_154 0 7 (dk_at dksX23_is_0 8 rfl rfl)
theorem dX23_is_11 : decode cX23_is 11 = .ok (.iconst 1, 1) := dk_4 (dk_at dksX23_is_0 11 rfl rfl)
theorem dX23_is_12 : decode cX23_is 12 = .ok (.goto 4, 3) := dk_167 0 4 (dk_at dksX23_is_0 12 rfl rfl)
theorem dX23_is_15 : decode cX23_is 15 = .ok (.iconst 0, 1) := dk_3 (dk_at dksX23_is_0 15 rfl rfl)
theorem dX23_is_16 : decode cX23_is 16 = .ok (.ireturn, 1) := dk_172 (dk_at dksX23_is_0 16 rfl rfl)
def dkwX24_init_0 : List UInt8 := [42, 183, 0, 1, 42, 187, 0, 7, 89, 5, 183, 0, 9, 181, 0, 12, 42, 27, 181, 0, 18, 177]
abbrev dktX24_init_0 : List UInt8 := dkwX24_init_0 ++ []
theorem dksX24_init_0 : cX24_init.data.toList.drop 0 = dktX24_init_0 := by decide +kernel
theorem dX24_init_0 : decode cX24_init 0 = .ok (.aload_n 0, 1) := dk_42 (dk_at dksX24_init_0 0 rfl rfl)
theorem dX24_init_1 : decode cX24_init 1 = .ok (.invokespecial 1, 3) := dk_183 0 1 (dk_at dksX24_init_0 1 rfl rfl)
theorem dX24_init_4 : decode cX24_init 4 = .ok (.aload_n 0, 1) := dk_42 (dk_at dksX24_init_0 4 rfl rfl)
theorem dX24_init_5 : decode cX24_init 5 = .ok (.new 7, 3) := dk_187 0 7 (dk_at dksX24_init_0 5 rfl rfl)
theorem dX24_init_8 : decode cX24_init 8 = .ok (.dup, 1) := dk_89 (dk_at dksX24_init_0 8 rfl rfl)
theorem dX24_init_9 : decode cX24_init 9 = .ok (.iconst 2, 1) := dk_5 (dk_at dksX24_init_0 9 rfl rfl)
theorem dX24_init_10 : decode cX24_init 10 = .ok (.invokespecial 9, 3) := dk_183 0 9 (dk_at dksX24_init_0 10 rfl rfl)
theorem dX24_init_13 : decode cX24_init 13 = .ok (.putfield 12, 3) := dk_181 0 12 (dk_at dksX24_init_0 13 rfl rfl)
theorem dX24_init_16 : decode cX24_init 16 = .ok (.aload_n 0, 1) := dk_42 (dk_at dksX24_init_0 16 rfl rfl)
theorem dX24_init_17 : decode cX24_init 17 = .ok (.iload_n 1, 1) := dk_27 (dk_at dksX24_init_0 17 rfl rfl)
theorem dX24_init_18 : decode cX24_init 18 = .ok (.putfield 18, 3) := dk_181 0 18 (dk_at dksX24_init_0 18 rfl rfl)
theorem dX24_init_21 : decode cX24_init 21 = .ok (.return_, 1) := dk_177 (dk_at dksX24_init_0 21 rfl rfl)
def dkwX24_is_2 : List UInt8 := [132, 2, 1, 167, 255, 207, 42, 180, 0, 18, 172]
abbrev dktX24_is_2 : List UInt8 := dkwX24_is_2 ++ []
def dkwX24_is_1 : List UInt8 := [43, 182, 0, 30, 42, 180, 0, 18, 159, 0, 16, 42, 180, 0, 18, 154, 0, 7, 4, 167, 0, 4, 3, 172]
abbrev dktX24_is_1 : List UInt8 := dkwX24_is_1 ++ dktX24_is_2
def dkwX24_is_0 : List UInt8 := [3, 61, 28, 42, 180, 0, 12, 182, 0, 22, 162, 0, 44, 42, 180, 0, 12, 28, 182, 0, 26, 192, 0, 2]
abbrev dktX24_is_0 : List UInt8 := dkwX24_is_0 ++ dktX24_is_1
theorem dksX24_is_0 : cX24_is.data.toList.drop 0 = dktX24_is_0 := by decide +kernel
theorem dksX24_is_1 : cX24_is.data.toList.drop 24 = dktX24_is_1 := dk_seg dksX24_is_0 24 rfl rfl
theorem dksX24_is_2 : cX24_is.data.toList.drop 48 = dktX24_is_2 := dk_seg dksX24_is_1 24 rfl rfl
theorem dX24_is_0 : decode cX24_is 0 = .ok (.iconst 0, 1) := dk_3 (dk_at dksX24_is_0 0 rfl rfl)
theorem dX24_is_1 : decode cX24_is 1 = .ok (.istore_n 2, 1) := dk_61 (dk_at dksX24_is_0 1 rfl rfl)
theorem dX24_is_2 : decode cX24_is 2 = .ok (.iload_n 2, 1) := dk_28 (dk_at dksX24_is_0 2 rfl rfl)
theorem dX24_is_3 : decode cX24_is 3 = .ok (.aload_n 0, 1) := dk_42 (dk_at dksX24_is_0 3 rfl rfl)
theorem dX24_is_4 : decode cX24_is 4 = .ok (.getfield 12, 3) := dk_180 0 12 (dk_at dksX24_is_0 4 rfl rfl)
theorem dX24_is_7 : decode cX24_is 7 = .ok (.invokevirtual 22, 3) := dk_182 0 22 (dk_at dksX24_is_0 7 rfl rfl)
theorem dX24_is_10 : decode cX24_is 10 = .ok (.if_icmp .ge 44, 3) := dk_162 0 44 (dk_at dksX24_is_0 10 rfl rfl)
theorem dX24_is_13 : decode cX24_is 13 = .ok (.aload_n 0, 1) := dk_42 (dk_at dksX24_is_0 13 rfl rfl)
theorem dX24_is_14 : decode cX24_is 14 = .ok (.getfield 12, 3) := dk_180 0 12 (dk_at dksX24_is_0 14 rfl rfl)
theorem dX24_is_17 : decode cX24_is 17 = .ok (.iload_n 2, 1) := dk_28 (dk_at dksX24_is_0 17 rfl rfl)
theorem dX24_is_18 : decode cX24_is 18 = .ok (.invokevirtual 26, 3) := dk_182 0 26 (dk_at dksX24_is_0 18 rfl rfl)
theorem dX24_is_21 : decode cX24_is 21 = .ok (.checkcast 2, 3) := dk_192 0 2 (dk_at dksX24_is_0 21 rfl rfl)
theorem dX24_is_24 : decode cX24_is 24 = .ok (.aload_n 1, 1) := dk_43 (dk_at dksX24_is_1 0 rfl rfl)
theorem dX24_is_25 : decode cX24_is 25 = .ok (.invokevirtual 30, 3) := dk_182 0 30 (dk_at dksX24_is_1 1 rfl rfl)
theorem dX24_is_28 : decode cX24_is 28 = .ok (.aload_n 0, 1) := dk_42 (dk_at dksX24_is_1 4 rfl rfl)
theorem dX24_is_29 : decode cX24_is 29 = .ok (.getfield 18, 3) := dk_180 0 18 (dk_at dksX24_is_1 5 rfl rfl)
theorem dX24_is_32 : decode cX24_is 32 = .ok (.if_icmp .eq 16, 3) := dk_159 0 16 (dk_at dksX24_is_1 8 rfl rfl)
theorem dX24_is_35 : decode cX24_is 35 = .ok (.aload_n 0, 1) := dk_42 (dk_at dksX24_is_1 11 rfl rfl)
theorem dX24_is_36 : decode cX24_is 36 = .ok (.getfield 18, 3) := dk_180 0 18 (dk_at dksX24_is_1 12 rfl rfl)
theorem dX24_is_39 : decode cX24_is 39 = .ok (.ifCond .ne 7, 3) := dk_154 0 7 (dk_at dksX24_is_1 15 rfl rfl)
theorem dX24_is_42 : decode cX24_is 42 = .ok (.iconst 1, 1) := dk_4 (dk_at dksX24_is_1 18 rfl rfl)
theorem dX24_is_43 : decode cX24_is 43 = .ok (.goto 4, 3) := dk_167 0 4 (dk_at dksX24_is_1 19 rfl rfl)
theorem dX24_is_46 : decode cX24_is 46 = .ok (.iconst 0, 1) := dk_3 (dk_at dksX24_is_1 22 rfl rfl)
theorem dX24_is_47 : decode cX24_is 47 = .ok (.ireturn, 1) := dk_172 (dk_at dksX24_is_1 23 rfl rfl)
theorem dX24_is_48 : decode cX24_is 48 = .ok (.iinc 2 1, 3) := dk_132 2 1 (dk_at dksX24_is_2 0 rfl rfl)
theorem dX24_is_51 : decode cX24_is 51 = .ok (.goto (-49), 3) := dk_167 255 207 (dk_at dksX24_is_2 3 rfl rfl)
theorem dX24_is_54 : decode cX24_is 54 = .ok (.aload_n 0, 1) := dk_42 (dk_at dksX24_is_2 6 rfl rfl)
theorem dX24_is_55 : decode cX24_is 55 = .ok (.getfield 18, 3) := dk_180 0 18 (dk_at dksX24_is_2 7 rfl rfl)
theorem dX24_is_58 : decode cX24_is 58 = .ok (.ireturn, 1) := dk_172 (dk_at dksX24_is_2 10 rfl rfl)
def dkwX25_init_0 : List UInt8 := [42, 183, 0, 1, 42, 27, 181, 0, 7, 42, 28, 181, 0, 13, 42, 45, 181, 0, 16, 177]
abbrev dktX25_init_0 : List UInt8 := dkwX25_init_0 ++ []
theorem dksX25_init_0 : cX25_init.data.toList.drop 0 = dktX25_init_0 := by decide +kernel
theorem dX25_init_0 : decode cX25_init 0 = .ok (.aload_n 0, 1) := dk_42 (dk_at dksX25_init_0 0 rfl rfl)
theorem dX25_init_1 : decode cX25_init 1 = .ok (.invokespecial 1, 3) := dk_183 0 1 (dk_at dksX25_init_0 1 rfl rfl)
theorem dX25_init_4 : decode cX25_init 4 = .ok (.aload_n 0, 1) := dk_42 (dk_at dksX25_init_0 4 rfl rfl)
theorem dX25_init_5 : decode cX25_init 5 = .ok (.iload_n 1, 1) := dk_27 (dk_at dksX25_init_0 5 rfl rfl)
theorem dX25_init_6 : decode cX25_init 6 = .ok (.putfield 7, 3) := dk_181 0 7 (dk_at dksX25_init_0 6 rfl rfl)
theorem dX25_init_9 : decode cX25_init 9 = .ok (.aload_n 0, 1) := dk_42 (dk_at dksX25_init_0 9 rfl rfl)
theorem dX25_init_10 : decode cX25_init 10 = .ok (.iload_n 2, 1) := dk_28 (dk_at dksX25_init_0 10 rfl rfl)
theorem dX25_init_11 : decode cX25_init 11 = .ok (.putfield 13, 3) := dk_181 0 13 (dk_at dksX25_init_0 11 rfl rfl)
theorem dX25_init_14 : decode cX25_init 14 = .ok (.aload_n 0, 1) := dk_42 (dk_at dksX25_init_0 14 rfl rfl)
theorem dX25_init_15 : decode cX25_init 15 = .ok (.aload_n 3, 1) := dk_45 (dk_at dksX25_init_0 15 rfl rfl)
theorem dX25_init_16 : decode cX25_init 16 = .ok (.putfield 16, 3) := dk_181 0 16 (dk_at dksX25_init_0 16 rfl rfl)
theorem dX25_init_19 : decode cX25_init 19 = .ok (.return_, 1) := dk_177 (dk_at dksX25_init_0 19 rfl rfl)
def dkwJ16_bitCount_2 : List UInt8 := [26, 16, 63, 126, 172]
abbrev dktJ16_bitCount_2 : List UInt8 := dkwJ16_bitCount_2 ++ []
def dkwJ16_bitCount_1 : List UInt8 := [26, 26, 7, 124, 96, 19, 1, 11, 126, 59, 26, 26, 16, 8, 124, 96, 59, 26, 26, 16, 16, 124, 96, 59]
abbrev dktJ16_bitCount_1 : List UInt8 := dkwJ16_bitCount_1 ++ dktJ16_bitCount_2
def dkwJ16_bitCount_0 : List UInt8 := [26, 26, 4, 124, 19, 1, 9, 126, 100, 59, 26, 19, 1, 10, 126, 26, 5, 124, 19, 1, 10, 126, 96, 59]
abbrev dktJ16_bitCount_0 : List UInt8 := dkwJ16_bitCount_0 ++ dktJ16_bitCount_1
theorem dksJ16_bitCount_0 : cJ16_bitCount.data.toList.drop 0 = dktJ16_bitCount_0 := by decide +kernel
theorem dksJ16_bitCount_1 : cJ16_bitCount.data.toList.drop 24 = dktJ16_bitCount_1 := dk_seg dksJ16_bitCount_0 24 rfl rfl
theorem dksJ16_bitCount_2 : cJ16_bitCount.data.toList.drop 48 = dktJ16_bitCount_2 := dk_seg dksJ16_bitCount_1 24 rfl rfl
theorem dJ16_bitCount_0 : decode cJ16_bitCount 0 = .ok (.iload_n 0, 1) := dk_26 (dk_at dksJ16_bitCount_0 0 rfl rfl)
theorem dJ16_bitCount_1 : decode cJ16_bitCount 1 = .ok (.iload_n 0, 1) := dk_26 (dk_at dksJ16_bitCount_0 1 rfl rfl)
theorem dJ16_bitCount_2 : decode cJ16_bitCount 2 = .ok (.iconst 1, 1) := dk_4 (dk_at dksJ16_bitCount_0 2 rfl rfl)
theorem dJ16_bitCount_3 : decode cJ16_bitCount 3 = .ok (.iushr, 1) := dk_124 (dk_at dksJ16_bitCount_0 3 rfl rfl)
theorem dJ16_bitCount_4 : decode cJ16_bitCount 4 = .ok (.ldc_w 265, 3) := dk_19 1 9 (dk_at dksJ16_bitCount_0 4 rfl rfl)
theorem dJ16_bitCount_7 : decode cJ16_bitCount 7 = .ok (.iand, 1) := dk_126 (dk_at dksJ16_bitCount_0 7 rfl rfl)
theorem dJ16_bitCount_8 : decode cJ16_bitCount 8 = .ok (.isub, 1) := dk_100 (dk_at dksJ16_bitCount_0 8 rfl rfl)
theorem dJ16_bitCount_9 : decode cJ16_bitCount 9 = .ok (.istore_n 0, 1) := dk_59 (dk_at dksJ16_bitCount_0 9 rfl rfl)
theorem dJ16_bitCount_10 : decode cJ16_bitCount 10 = .ok (.iload_n 0, 1) := dk_26 (dk_at dksJ16_bitCount_0 10 rfl rfl)
theorem dJ16_bitCount_11 : decode cJ16_bitCount 11 = .ok (.ldc_w 266, 3) := dk_19 1 10 (dk_at dksJ16_bitCount_0 11 rfl rfl)
theorem dJ16_bitCount_14 : decode cJ16_bitCount 14 = .ok (.iand, 1) := dk_126 (dk_at dksJ16_bitCount_0 14 rfl rfl)
theorem dJ16_bitCount_15 : decode cJ16_bitCount 15 = .ok (.iload_n 0, 1) := dk_26 (dk_at dksJ16_bitCount_0 15 rfl rfl)
theorem dJ16_bitCount_16 : decode cJ16_bitCount 16 = .ok (.iconst 2, 1) := dk_5 (dk_at dksJ16_bitCount_0 16 rfl rfl)
theorem dJ16_bitCount_17 : decode cJ16_bitCount 17 = .ok (.iushr, 1) := dk_124 (dk_at dksJ16_bitCount_0 17 rfl rfl)
theorem dJ16_bitCount_18 : decode cJ16_bitCount 18 = .ok (.ldc_w 266, 3) := dk_19 1 10 (dk_at dksJ16_bitCount_0 18 rfl rfl)
theorem dJ16_bitCount_21 : decode cJ16_bitCount 21 = .ok (.iand, 1) := dk_126 (dk_at dksJ16_bitCount_0 21 rfl rfl)
theorem dJ16_bitCount_22 : decode cJ16_bitCount 22 = .ok (.iadd, 1) := dk_96 (dk_at dksJ16_bitCount_0 22 rfl rfl)
theorem dJ16_bitCount_23 : decode cJ16_bitCount 23 = .ok (.istore_n 0, 1) := dk_59 (dk_at dksJ16_bitCount_0 23 rfl rfl)
theorem dJ16_bitCount_24 : decode cJ16_bitCount 24 = .ok (.iload_n 0, 1) := dk_26 (dk_at dksJ16_bitCount_1 0 rfl rfl)
theorem dJ16_bitCount_25 : decode cJ16_bitCount 25 = .ok (.iload_n 0, 1) := dk_26 (dk_at dksJ16_bitCount_1 1 rfl rfl)
theorem dJ16_bitCount_26 : decode cJ16_bitCount 26 = .ok (.iconst 4, 1) := dk_7 (dk_at dksJ16_bitCount_1 2 rfl rfl)
theorem dJ16_bitCount_27 : decode cJ16_bitCount 27 = .ok (.iushr, 1) := dk_124 (dk_at dksJ16_bitCount_1 3 rfl rfl)
theorem dJ16_bitCount_28 : decode cJ16_bitCount 28 = .ok (.iadd, 1) := dk_96 (dk_at dksJ16_bitCount_1 4 rfl rfl)
theorem dJ16_bitCount_29 : decode cJ16_bitCount 29 = .ok (.ldc_w 267, 3) := dk_19 1 11 (dk_at dksJ16_bitCount_1 5 rfl rfl)
theorem dJ16_bitCount_32 : decode cJ16_bitCount 32 = .ok (.iand, 1) := dk_126 (dk_at dksJ16_bitCount_1 8 rfl rfl)
theorem dJ16_bitCount_33 : decode cJ16_bitCount 33 = .ok (.istore_n 0, 1) := dk_59 (dk_at dksJ16_bitCount_1 9 rfl rfl)
theorem dJ16_bitCount_34 : decode cJ16_bitCount 34 = .ok (.iload_n 0, 1) := dk_26 (dk_at dksJ16_bitCount_1 10 rfl rfl)
theorem dJ16_bitCount_35 : decode cJ16_bitCount 35 = .ok (.iload_n 0, 1) := dk_26 (dk_at dksJ16_bitCount_1 11 rfl rfl)
theorem dJ16_bitCount_36 : decode cJ16_bitCount 36 = .ok (.bipush 8, 2) := dk_16 8 (dk_at dksJ16_bitCount_1 12 rfl rfl)
theorem dJ16_bitCount_38 : decode cJ16_bitCount 38 = .ok (.iushr, 1) := dk_124 (dk_at dksJ16_bitCount_1 14 rfl rfl)
theorem dJ16_bitCount_39 : decode cJ16_bitCount 39 = .ok (.iadd, 1) := dk_96 (dk_at dksJ16_bitCount_1 15 rfl rfl)
theorem dJ16_bitCount_40 : decode cJ16_bitCount 40 = .ok (.istore_n 0, 1) := dk_59 (dk_at dksJ16_bitCount_1 16 rfl rfl)
theorem dJ16_bitCount_41 : decode cJ16_bitCount 41 = .ok (.iload_n 0, 1) := dk_26 (dk_at dksJ16_bitCount_1 17 rfl rfl)
theorem dJ16_bitCount_42 : decode cJ16_bitCount 42 = .ok (.iload_n 0, 1) := dk_26 (dk_at dksJ16_bitCount_1 18 rfl rfl)
theorem dJ16_bitCount_43 : decode cJ16_bitCount 43 = .ok (.bipush 16, 2) := dk_16 16 (dk_at dksJ16_bitCount_1 19 rfl rfl)
theorem dJ16_bitCount_45 : decode cJ16_bitCount 45 = .ok (.iushr, 1) := dk_124 (dk_at dksJ16_bitCount_1 21 rfl rfl)
theorem dJ16_bitCount_46 : decode cJ16_bitCount 46 = .ok (.iadd, 1) := dk_96 (dk_at dksJ16_bitCount_1 22 rfl rfl)
theorem dJ16_bitCount_47 : decode cJ16_bitCount 47 = .ok (.istore_n 0, 1) := dk_59 (dk_at dksJ16_bitCount_1 23 rfl rfl)
theorem dJ16_bitCount_48 : decode cJ16_bitCount 48 = .ok (.iload_n 0, 1) := dk_26 (dk_at dksJ16_bitCount_2 0 rfl rfl)
theorem dJ16_bitCount_49 : decode cJ16_bitCount 49 = .ok (.bipush 63, 2) := dk_16 63 (dk_at dksJ16_bitCount_2 1 rfl rfl)
theorem dJ16_bitCount_51 : decode cJ16_bitCount 51 = .ok (.iand, 1) := dk_126 (dk_at dksJ16_bitCount_2 3 rfl rfl)
theorem dJ16_bitCount_52 : decode cJ16_bitCount 52 = .ok (.ireturn, 1) := dk_172 (dk_at dksJ16_bitCount_2 4 rfl rfl)
theorem dJ17_init_0 : decode cJ17_init 0 = .ok (.return_, 1) := by decide +kernel
