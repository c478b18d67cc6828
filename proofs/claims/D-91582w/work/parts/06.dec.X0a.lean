set_option maxRecDepth 100000
def dkwX0_init_9 : List UInt8 := [188, 10, 181, 0, 108, 42, 16, 7, 188, 10, 181, 0, 111, 42, 2, 181, 0, 114, 177]
abbrev dktX0_init_9 : List UInt8 := dkwX0_init_9 ++ []
def dkwX0_init_8 : List UInt8 := [188, 11, 181, 0, 98, 42, 16, 7, 188, 10, 181, 0, 102, 42, 16, 7, 188, 10, 181, 0, 105, 42, 16, 7]
abbrev dktX0_init_8 : List UInt8 := dkwX0_init_8 ++ dktX0_init_9
def dkwX0_init_7 : List UInt8 := [188, 10, 181, 0, 89, 42, 16, 20, 188, 10, 181, 0, 92, 42, 16, 8, 188, 10, 181, 0, 95, 42, 16, 8]
abbrev dktX0_init_7 : List UInt8 := dkwX0_init_7 ++ dktX0_init_8
def dkwX0_init_6 : List UInt8 := [181, 0, 76, 42, 2, 181, 0, 79, 42, 187, 0, 82, 89, 42, 183, 0, 84, 181, 0, 85, 42, 16, 8]
abbrev dktX0_init_6 : List UInt8 := dkwX0_init_6 ++ dktX0_init_7
def dkwX0_init_5 : List UInt8 := [181, 0, 67, 42, 16, 7, 188, 10, 181, 0, 70, 42, 16, 7, 188, 10, 181, 0, 73, 42, 16, 7, 188, 10]
abbrev dktX0_init_5 : List UInt8 := dkwX0_init_5 ++ dktX0_init_6
def dkwX0_init_4 : List UInt8 := [181, 0, 58, 42, 16, 7, 188, 10, 181, 0, 61, 42, 16, 7, 188, 10, 181, 0, 64, 42, 16, 7, 188, 10]
abbrev dktX0_init_4 : List UInt8 := dkwX0_init_4 ++ dktX0_init_5
def dkwX0_init_3 : List UInt8 := [181, 0, 47, 42, 16, 7, 188, 10, 181, 0, 51, 42, 16, 7, 188, 10, 181, 0, 55, 42, 16, 7, 188, 10]
abbrev dktX0_init_3 : List UInt8 := dkwX0_init_3 ++ dktX0_init_4
def dkwX0_init_2 : List UInt8 := [181, 0, 33, 42, 187, 0, 37, 89, 183, 0, 39, 181, 0, 40, 42, 187, 0, 44, 89, 42, 183, 0, 46]
abbrev dktX0_init_2 : List UInt8 := dkwX0_init_2 ++ dktX0_init_3
def dkwX0_init_1 : List UInt8 := [17, 1, 144, 188, 8, 181, 0, 20, 42, 2, 181, 0, 24, 42, 187, 0, 28, 89, 42, 183, 0, 30]
abbrev dktX0_init_1 : List UInt8 := dkwX0_init_1 ++ dktX0_init_2
def dkwX0_init_0 : List UInt8 := [42, 183, 0, 1, 42, 187, 0, 7, 89, 183, 0, 9, 181, 0, 10, 42, 5, 189, 0, 7, 181, 0, 16, 42]
abbrev dktX0_init_0 : List UInt8 := dkwX0_init_0 ++ dktX0_init_1
theorem dksX0_init_0 : cX0_init.data.toList.drop 0 = dktX0_init_0 := by decide +kernel
theorem dksX0_init_1 : cX0_init.data.toList.drop 24 = dktX0_init_1 := dk_seg dksX0_init_0 24 rfl rfl
theorem dksX0_init_2 : cX0_init.data.toList.drop 46 = dktX0_init_2 := dk_seg dksX0_init_1 22 rfl rfl
theorem dksX0_init_3 : cX0_init.data.toList.drop 69 = dktX0_init_3 := dk_seg dksX0_init_2 23 rfl rfl
theorem dksX0_init_4 : cX0_init.data.toList.drop 93 = dktX0_init_4 := dk_seg dksX0_init_3 24 rfl rfl
theorem dksX0_init_5 : cX0_init.data.toList.drop 117 = dktX0_init_5 := dk_seg dksX0_init_4 24 rfl rfl
theorem dksX0_init_6 : cX0_init.data.toList.drop 141 = dktX0_init_6 := dk_seg dksX0_init_5 24 rfl rfl
theorem dksX0_init_7 : cX0_init.data.toList.drop 164 = dktX0_init_7 := dk_seg dksX0_init_6 23 rfl rfl
theorem dksX0_init_8 : cX0_init.data.toList.drop 188 = dktX0_init_8 := dk_seg dksX0_init_7 24 rfl rfl
theorem dksX0_init_9 : cX0_init.data.toList.drop 212 = dktX0_init_9 := dk_seg dksX0_init_8 24 rfl rfl
theorem dX0_init_0 : decode cX0_init 0 = .ok (.aload_n 0, 1) := dk_42 (dk_at dksX0_init_0 0 rfl rfl)
theorem dX0_init_1 : decode cX0_init 1 = .ok (.invokespecial 1, 3) := dk_183 0 1 (dk_at dksX0_init_0 1 rfl rfl)
theorem dX0_init_4 : decode cX0_init 4 = .ok (.aload_n 0, 1) := dk_42 (dk_at dksX0_init_0 4 rfl rfl)
theorem dX0_init_5 : decode cX0_init 5 = .ok (.new 7, 3) := dk_187 0 7 (dk_at dksX0_init_0 5 rfl rfl)
theorem dX0_init_8 : decode cX0_init 8 = .ok (.dup, 1) := dk_89 (dk_at dksX0_init_0 8 rfl rfl)
theorem dX0_init_9 : decode cX0_init 9 = .ok (.invokespecial 9, 3) := dk_183 0 9 (dk_at dksX0_init_0 9 rfl rfl)
theorem dX0_init_12 : decode cX0_init 12 = .ok (.putfield 10, 3) := dk_181 0 10 (dk_at dksX0_init_0 12 rfl rfl)
theorem dX0_init_15 : decode cX0_init 15 = .ok (.aload_n 0, 1) := dk_42 (dk_at dksX0_init_0 15 rfl rfl)
theorem dX0_init_16 : decode cX0_init 16 = .ok (.iconst 2, 1) := dk_5 (dk_at dksX0_init_0 16 rfl rfl)
theorem dX0_init_17 : decode cX0_init 17 = .ok (.anewarray 7, 3) := dk_189 0 7 (dk_at dksX0_init_0 17 rfl rfl)
theorem dX0_init_20 : decode cX0_init 20 = .ok (.putfield 16, 3) := dk_181 0 16 (dk_at dksX0_init_0 20 rfl rfl)
theorem dX0_init_23 : decode cX0_init 23 = .ok (.aload_n 0, 1) := dk_42 (dk_at dksX0_init_0 23 rfl rfl)
theorem dX0_init_24 : decode cX0_init 24 = .ok (.sipush 400, 3) := dk_17 1 144 (dk_at dksX0_init_1 0 rfl rfl)
theorem dX0_init_27 : decode cX0_init 27 = .ok (.newarray .byte, 2) := dk_188_8 (dk_at dksX0_init_1 3 rfl rfl)
theorem dX0_init_29 : decode cX0_init 29 = .ok (.putfield 20, 3) := dk_181 0 20 (dk_at dksX0_init_1 5 rfl rfl)
theorem dX0_init_32 : decode cX0_init 32 = .ok (.aload_n 0, 1) := dk_42 (dk_at dksX0_init_1 8 rfl rfl)
theorem dX0_init_33 : decode cX0_init 33 = .ok (.iconst (-1), 1) := dk_2 (dk_at dksX0_init_1 9 rfl rfl)
theorem dX0_init_34 : decode cX0_init 34 = .ok (.putfield 24, 3) := dk_181 0 24 (dk_at dksX0_init_1 10 rfl rfl)
theorem dX0_init_37 : decode cX0_init 37 = .ok (.aload_n 0, 1) := dk_42 (dk_at dksX0_init_1 13 rfl rfl)
theorem dX0_init_38 : decode cX0_init 38 = .ok (.new 28, 3) := dk_187 0 28 (dk_at dksX0_init_1 14 rfl rfl)
theorem dX0_init_41 : decode cX0_init 41 = .ok (.dup, 1) := dk_89 (dk_at dksX0_init_1 17 rfl rfl)
theorem dX0_init_42 : decode cX0_init 42 = .ok (.aload_n 0, 1) := dk_42 (dk_at dksX0_init_1 18 rfl rfl)
theorem dX0_init_43 : decode cX0_init 43 = .ok (.invokespecial 30, 3) := dk_183 0 30 (dk_at dksX0_init_1 19 rfl rfl)
theorem dX0_init_46 : decode cX0_init 46 = .ok (.putfield 33, 3) := dk_181 0 33 (dk_at dksX0_init_2 0 rfl rfl)
theorem dX0_init_49 : decode cX0_init 49 = .ok (.aload_n 0, 1) := dk_42 (dk_at dksX0_init_2 3 rfl rfl)
theorem dX0_init_50 : decode cX0_init 50 = .ok (.new 37, 3) := dk_187 0 37 (dk_at dksX0_init_2 4 rfl rfl)
theorem dX0_init_53 : decode cX0_init 53 = .ok (.dup, 1) := dk_89 (dk_at dksX0_init_2 7 rfl rfl)
theorem dX0_init_54 : decode cX0_init 54 = .ok (.invokespecial 39, 3) := dk_183 0 39 (dk_at dksX0_init_2 8 rfl rfl)
theorem dX0_init_57 : decode cX0_init 57 = .ok (.putfield 40, 3) := dk_181 0 40 (dk_at dksX0_init_2 11 rfl rfl)
theorem dX0_init_60 : decode cX0_init 60 = .ok (.aload_n 0, 1) := dk_42 (dk_at dksX0_init_2 14 rfl rfl)
theorem dX0_init_61 : decode cX0_init 61 = .ok (.new 44, 3) := dk_187 0 44 (dk_at dksX0_init_2 15 rfl rfl)
theorem dX0_init_64 : decode cX0_init 64 = .ok (.dup, 1) := dk_89 (dk_at dksX0_init_2 18 rfl rfl)
theorem dX0_init_65 : decode cX0_init 65 = .ok (.aload_n 0, 1) := dk_42 (dk_at dksX0_init_2 19 rfl rfl)
theorem dX0_init_66 : decode cX0_init 66 = .ok (.invokespecial 46, 3) := dk_183 0 46 (dk_at dksX0_init_2 20 rfl rfl)
theorem dX0_init_69 : decode cX0_init 69 = .ok (.putfield 47, 3) := dk_181 0 47 (dk_at dksX0_init_3 0 rfl rfl)
theorem dX0_init_72 : decode cX0_init 72 = .ok (.aload_n 0, 1) := dk_42 (dk_at dksX0_init_3 3 rfl rfl)
theorem dX0_init_73 : decode cX0_init 73 = .ok (.bipush 7, 2) := dk_16 7 (dk_at dksX0_init_3 4 rfl rfl)
theorem dX0_init_75 : decode cX0_init 75 = .ok (.newarray .int, 2) := dk_188_10 (dk_at dksX0_init_3 6 rfl rfl)
theorem dX0_init_77 : decode cX0_init 77 = .ok (.putfield 51, 3) := dk_181 0 51 (dk_at dksX0_init_3 8 rfl rfl)
theorem dX0_init_80 : decode cX0_init 80 = .ok (.aload_n 0, 1) := dk_42 (dk_at dksX0_init_3 11 rfl rfl)
theorem dX0_init_81 : decode cX0_init 81 = .ok (.bipush 7, 2) := dk_16 7 (dk_at dksX0_init_3 12 rfl rfl)
theorem dX0_init_83 : decode cX0_init 83 = .ok (.newarray .int, 2) := dk_188_10 (dk_at dksX0_init_3 14 rfl rfl)
theorem dX0_init_85 : decode cX0_init 85 = .ok (.putfield 55, 3) := dk_181 0 55 (dk_at dksX0_init_3 16 rfl rfl)
theorem dX0_init_88 : decode cX0_init 88 = .ok (.aload_n 0, 1) := dk_42 (dk_at dksX0_init_3 19 rfl rfl)
theorem dX0_init_89 : decode cX0_init 89 = .ok (.bipush 7, 2) := dk_16 7 (dk_at dksX0_init_3 20 rfl rfl)
theorem dX0_init_91 : decode cX0_init 91 = .ok (.newarray .int, 2) := dk_188_10 (dk_at dksX0_init_3 22 rfl rfl)
theorem dX0_init_93 : decode cX0_init 93 = .ok (.putfield 58, 3) := dk_181 0 58 (dk_at dksX0_init_4 0 rfl rfl)
theorem dX0_init_96 : decode cX0_init 96 = .ok (.aload_n 0, 1) := dk_42 (dk_at dksX0_init_4 3 rfl rfl)
theorem dX0_init_97 : decode cX0_init 97 = .ok (.bipush 7, 2) := dk_16 7 (dk_at dksX0_init_4 4 rfl rfl)
theorem dX0_init_99 : decode cX0_init 99 = .ok (.newarray .int, 2) := dk_188_10 (dk_at dksX0_init_4 6 rfl rfl)
theorem dX0_init_101 : decode cX0_init 101 = .ok (.putfield 61, 3) := dk_181 0 61 (dk_at dksX0_init_4 8 rfl rfl)
theorem dX0_init_104 : decode cX0_init 104 = .ok (.aload_n 0, 1) := dk_42 (dk_at dksX0_init_4 11 rfl rfl)
theorem dX0_init_105 : decode cX0_init 105 = .ok (.bipush 7, 2) := dk_16 7 (dk_at dksX0_init_4 12 rfl rfl)
theorem dX0_init_107 : decode cX0_init 107 = .ok (.newarray .int, 2) := dk_188_10 (dk_at dksX0_init_4 14 rfl rfl)
theorem dX0_init_109 : decode cX0_init 109 = .ok (.putfield 64, 3) := dk_181 0 64 (dk_at dksX0_init_4 16 rfl rfl)
theorem dX0_init_112 : decode cX0_init 112 = .ok (.aload_n 0, 1) := dk_42 (dk_at dksX0_init_4 19 rfl rfl)
theorem dX0_init_113 : decode cX0_init 113 = .ok (.bipush 7, 2) := dk_16 7 (dk_at dksX0_init_4 20 rfl rfl)
theorem dX0_init_115 : decode cX0_init 115 = .ok (.newarray .int, 2) := dk_188_10 (dk_at dksX0_init_4 22 rfl rfl)
theorem dX0_init_117 : decode cX0_init 117 = .ok (.putfield 67, 3) := dk_181 0 67 (dk_at dksX0_init_5 0 rfl rfl)
theorem dX0_init_120 : decode cX0_init 120 = .ok (.aload_n 0, 1) := dk_42 (dk_at dksX0_init_5 3 rfl rfl)
theorem dX0_init_121 : decode cX0_init 121 = .ok (.bipush 7, 2) := dk_16 7 (dk_at dksX0_init_5 4 rfl rfl)
theorem dX0_init_123 : decode cX0_init 123 = .ok (.newarray .int, 2) := dk_188_10 (dk_at dksX0_init_5 6 rfl rfl)
theorem dX0_init_125 : decode cX0_init 125 = .ok (.putfield 70, 3) := dk_181 0 70 (dk_at dksX0_init_5 8 rfl rfl)
theorem dX0_init_128 : decode cX0_init 128 = .ok (.aload_n 0, 1) := dk_42 (dk_at dksX0_init_5 11 rfl rfl)
theorem dX0_init_129 : decode cX0_init 129 = .ok (.bipush 7, 2) := dk_16 7 (dk_at dksX0_init_5 12 rfl rfl)
theorem dX0_init_131 : decode cX0_init 131 = .ok (.newarray .int, 2) := dk_188_10 (dk_at dksX0_init_5 14 rfl rfl)
theorem dX0_init_133 : decode cX0_init 133 = .ok (.putfield 73, 3) := dk_181 0 73 (dk_at dksX0_init_5 16 rfl rfl)
theorem dX0_init_136 : decode cX0_init 136 = .ok (.aload_n 0, 1) := dk_42 (dk_at dksX0_init_5 19 rfl rfl)
theorem dX0_init_137 : decode cX0_init 137 = .ok (.bipush 7, 2) := dk_16 7 (dk_at dksX0_init_5 20 rfl rfl)
theorem dX0_init_139 : decode cX0_init 139 = .ok (.newarray .int, 2) := dk_188_10 (dk_at dksX0_init_5 22 rfl rfl)
theorem dX0_init_141 : decode cX0_init 141 = .ok (.putfield 76, 3) := dk_181 0 76 (dk_at dksX0_init_6 0 rfl rfl)
theorem dX0_init_144 : decode cX0_init 144 = .ok (.aload_n 0, 1) := dk_42 (dk_at dksX0_init_6 3 rfl rfl)
theorem dX0_init_145 : decode cX0_init 145 = .ok (.iconst (-1), 1) := dk_2 (dk_at dksX0_init_6 4 rfl rfl)
theorem dX0_init_146 : decode cX0_init 146 = .ok (.putfield 79, 3) := dk_181 0 79 (dk_at dksX0_init_6 5 rfl rfl)
theorem dX0_init_149 : decode cX0_init 149 = .ok (.aload_n 0, 1) := dk_42 (dk_at dksX0_init_6 8 rfl rfl)
theorem dX0_init_150 : decode cX0_init 150 = .ok (.new 82, 3) := dk_187 0 82 (dk_at dksX0_init_6 9 rfl rfl)
theorem dX0_init_153 : decode cX0_init 153 = .ok (.dup, 1) := dk_89 (dk_at dksX0_init_6 12 rfl rfl)
theorem dX0_init_154 : decode cX0_init 154 = .ok (.aload_n 0, 1) := dk_42 (dk_at dksX0_init_6 13 rfl rfl)
theorem dX0_init_155 : decode cX0_init 155 = .ok (.invokespecial 84, 3) := dk_183 0 84 (dk_at dksX0_init_6 14 rfl rfl)
theorem dX0_init_158 : decode cX0_init 158 = .ok (.putfield 85, 3) := dk_181 0 85 (dk_at dksX0_init_6 17 rfl rfl)
theorem dX0_init_161 : decode cX0_init 161 = .ok (.aload_n 0, 1) := dk_42 (dk_at dksX0_init_6 20 rfl rfl)
theorem dX0_init_162 : decode cX0_init 162 = .ok (.bipush 8, 2) := dk_16 8 (dk_at dksX0_init_6 21 rfl rfl)
theorem dX0_init_164 : decode cX0_init 164 = .ok (.newarray .int, 2) := dk_188_10 (dk_at dksX0_init_7 0 rfl rfl)
theorem dX0_init_166 : decode cX0_init 166 = .ok (.putfield 89, 3) := dk_181 0 89 (dk_at dksX0_init_7 2 rfl rfl)
theorem dX0_init_169 : decode cX0_init 169 = .ok (.aload_n 0, 1) := dk_42 (dk_at dksX0_init_7 5 rfl rfl)
theorem dX0_init_170 : decode cX0_init 170 = .ok (.bipush 20, 2) := dk_16 20 (dk_at dksX0_init_7 6 rfl rfl)
theorem dX0_init_172 : decode cX0_init 172 = .ok (.newarray .int, 2) := dk_188_10 (dk_at dksX0_init_7 8 rfl rfl)
theorem dX0_init_174 : decode cX0_init 174 = .ok (.putfield 92, 3) := dk_181 0 92 (dk_at dksX0_init_7 10 rfl rfl)
theorem dX0_init_177 : decode cX0_init 177 = .ok (.aload_n 0, 1) := dk_42 (dk_at dksX0_init_7 13 rfl rfl)
theorem dX0_init_178 : decode cX0_init 178 = .ok (.bipush 8, 2) := dk_16 8 (dk_at dksX0_init_7 14 rfl rfl)
theorem dX0_init_180 : decode cX0_init 180 = .ok (.newarray .int, 2) := dk_188_10 (dk_at dksX0_init_7 16 rfl rfl)
theorem dX0_init_182 : decode cX0_init 182 = .ok (.putfield 95, 3) := dk_181 0 95 (dk_at dksX0_init_7 18 rfl rfl)
theorem dX0_init_185 : decode cX0_init 185 = .ok (.aload_n 0, 1) := dk_42 (dk_at dksX0_init_7 21 rfl rfl)
theorem dX0_init_186 : decode cX0_init 186 = .ok (.bipush 8, 2) := dk_16 8 (dk_at dksX0_init_7 22 rfl rfl)
theorem dX0_init_188 : decode cX0_init 188 = .ok (.newarray .long, 2) := dk_188_11 (dk_at dksX0_init_8 0 rfl rfl)
theorem dX0_init_190 : decode cX0_init 190 = .ok (.putfield 98, 3) := dk_181 0 98 (dk_at dksX0_init_8 2 rfl rfl)
theorem dX0_init_193 : decode cX0_init 193 = .ok (.aload_n 0, 1) := dk_42 (dk_at dksX0_init_8 5 rfl rfl)
theorem dX0_init_194 : decode cX0_init 194 = .ok (.bipush 7, 2) := dk_16 7 (dk_at dksX0_init_8 6 rfl rfl)
theorem dX0_init_196 : decode cX0_init 196 = .ok (.newarray .int, 2) := dk_188_10 (dk_at dksX0_init_8 8 rfl rfl)
theorem dX0_init_198 : decode cX0_init 198 = .ok (.putfield 102, 3) := dk_181 0 102 (dk_at dksX0_init_8 10 rfl rfl)
theorem dX0_init_201 : decode cX0_init 201 = .ok (.aload_n 0, 1) := dk_42 (dk_at dksX0_init_8 13 rfl rfl)
theorem dX0_init_202 : decode cX0_init 202 = .ok (.bipush 7, 2) := dk_16 7 (dk_at dksX0_init_8 14 rfl rfl)
theorem dX0_init_204 : decode cX0_init 204 = .ok (.newarray .int, 2) := dk_188_10 (dk_at dksX0_init_8 16 rfl rfl)
theorem dX0_init_206 : decode cX0_init 206 = .ok (.putfield 105, 3) := dk_181 0 105 (dk_at dksX0_init_8 18 rfl rfl)
theorem dX0_init_209 : decode cX0_init 209 = .ok (.aload_n 0, 1) := dk_42 (dk_at dksX0_init_8 21 rfl rfl)
theorem dX0_init_210 : decode cX0_init 210 = .ok (.bipush 7, 2) := dk_16 7 (dk_at dksX0_init_8 22 rfl rfl)
theorem dX0_init_212 : decode cX0_init 212 = .ok (.newarray .int, 2) := dk_188_10 (dk_at dksX0_init_9 0 rfl rfl)
theorem dX0_init_214 : decode cX0_init 214 = .ok (.putfield 108, 3) := dk_181 0 108 (dk_at dksX0_init_9 2 rfl rfl)
theorem dX0_init_217 : decode cX0_init 217 = .ok (.aload_n 0, 1) := dk_42 (dk_at dksX0_init_9 5 rfl rfl)
theorem dX0_init_218 : decode cX0_init 218 = .ok (.bipush 7, 2) := dk_16 7 (dk_at dksX0_init_9 6 rfl rfl)
theorem dX0_init_220 : decode cX0_init 220 = .ok (.newarray .int, 2) := dk_188_10 (dk_at dksX0_init_9 8 rfl rfl)
theorem dX0_init_222 : decode cX0_init 222 = .ok (.putfield 111, 3) := dk_181 0 111 (dk_at dksX0_init_9 10 rfl rfl)
theorem dX0_init_225 : decode cX0_init 225 = .ok (.aload_n 0, 1) := dk_42 (dk_at dksX0_init_9 13 rfl rfl)
theorem dX0_init_226 : decode cX0_init 226 = .ok (.iconst (-1), 1) := dk_2 (dk_at dksX0_init_9 14 rfl rfl)
theorem dX0_init_227 : decode cX0_init 227 = .ok (.putfield 114, 3) := dk_181 0 114 (dk_at dksX0_init_9 15 rfl rfl)
theorem dX0_init_230 : decode cX0_init 230 = .ok (.return_, 1) := dk_177 (dk_at dksX0_init_9 18 rfl rfl)
def dkwX0_image_2 : List UInt8 := [182, 0, 134, 42, 3, 182, 0, 123, 172]
abbrev dktX0_image_2 : List UInt8 := dkwX0_image_2 ++ []
def dkwX0_image_1 : List UInt8 := [42, 180, 0, 16, 27, 187, 0, 7, 89, 183, 0, 9, 83, 42, 180, 0, 16, 27, 50, 42, 180, 0, 10]
abbrev dktX0_image_1 : List UInt8 := dkwX0_image_1 ++ dktX0_image_2
def dkwX0_image_0 : List UInt8 := [27, 3, 4, 184, 0, 127, 154, 0, 9, 42, 2, 182, 0, 131, 172, 42, 180, 0, 16, 27, 50, 199, 0, 16]
abbrev dktX0_image_0 : List UInt8 := dkwX0_image_0 ++ dktX0_image_1
theorem dksX0_image_0 : cX0_image.data.toList.drop 0 = dktX0_image_0 := by decide +kernel
theorem dksX0_image_1 : cX0_image.data.toList.drop 24 = dktX0_image_1 := dk_seg dksX0_image_0 24 rfl rfl
theorem dksX0_image_2 : cX0_image.data.toList.drop 47 = dktX0_image_2 := dk_seg dksX0_image_1 23 rfl rfl
theorem dX0_image_0 : decode cX0_image 0 = .ok (.iload_n 1, 1) := dk_27 (dk_at dksX0_image_0 0 rfl rfl)
theorem dX0_image_1 : decode cX0_image 1 = .ok (.iconst 0, 1) := dk_3 (dk_at dksX0_image_0 1 rfl rfl)
theorem dX0_image_2 : decode cX0_image 2 = .ok (.iconst 1, 1) := dk_4 (dk_at dksX0_image_0 2 rfl rfl)
theorem dX0_image_3 : decode cX0_image 3 = .ok (.invokestatic 127, 3) := dk_184 0 127 (dk_at dksX0_image_0 3 rfl rfl)
theorem dX0_image_6 : decode cX0_image 6 = .ok (.ifCond .ne 9, 3) := dk_154 0 9 (dk_at dksX0_image_0 6 rfl rfl)
theorem dX0_image_9 : decode cX0_image 9 = .ok (.aload_n 0, 1) := dk_42 (dk_at dksX0_image_0 9 rfl rfl)
theorem dX0_image_10 : decode cX0_image 10 = .ok (.iconst (-1), 1) := dk_2 (dk_at dksX0_image_0 10 rfl rfl)
theorem dX0_image_11 : decode cX0_image 11 = .ok (.invokevirtual 131, 3) := dk_182 0 131 (dk_at dksX0_image_0 11 rfl rfl)
theorem dX0_image_14 : decode cX0_image 14 = .ok (.ireturn, 1) := dk_172 (dk_at dksX0_image_0 14 rfl rfl)
theorem dX0_image_15 : decode cX0_image 15 = .ok (.aload_n 0, 1) := dk_42 (dk_at dksX0_image_0 15 rfl rfl)
theorem dX0_image_16 : decode cX0_image 16 = .ok (.getfield 16, 3) := dk_180 0 16 (dk_at dksX0_image_0 16 rfl rfl)
theorem dX0_image_19 : decode cX0_image 19 = .ok (.iload_n 1, 1) := dk_27 (dk_at dksX0_image_0 19 rfl rfl)
theorem dX0_image_20 : decode cX0_image 20 = .ok (.aaload, 1) := dk_50 (dk_at dksX0_image_0 20 rfl rfl)
theorem dX0_image_21 : decode cX0_image 21 = .ok (.ifnonnull 16, 3) := dk_199 0 16 (dk_at dksX0_image_0 21 rfl rfl)
theorem dX0_image_24 : decode cX0_image 24 = .ok (.aload_n 0, 1) := dk_42 (dk_at dksX0_image_1 0 rfl rfl)
theorem dX0_image_25 : decode cX0_image 25 = .ok (.getfield 16, 3) := dk_180 0 16 (dk_at dksX0_image_1 1 rfl rfl)
theorem dX0_image_28 : decode cX0_image 28 = .ok (.iload_n 1, 1) := dk_27 (dk_at dksX0_image_1 4 rfl rfl)
theorem dX0_image_29 : decode cX0_image 29 = .ok (.new 7, 3) := dk_187 0 7 (dk_at dksX0_image_1 5 rfl rfl)
theorem dX0_image_32 : decode cX0_image 32 = .ok (.dup, 1) := dk_89 (dk_at dksX0_image_1 8 rfl rfl)
theorem dX0_image_33 : decode cX0_image 33 = .ok (.invokespecial 9, 3) := dk_183 0 9 (dk_at dksX0_image_1 9 rfl rfl)
theorem dX0_image_36 : decode cX0_image 36 = .ok (.aastore, 1) := dk_83 (dk_at dksX0_image_1 12 rfl rfl)
theorem dX0_image_37 : decode cX0_image 37 = .ok (.aload_n 0, 1) := dk_42 (dk_at dksX0_image_1 13 rfl rfl)
theorem dX0_image_38 : decode cX0_image 38 = .ok (.getfield 16, 3) := dk_180 0 16 (dk_at dksX0_image_1 14 rfl rfl)
theorem dX0_image_41 : decode cX0_image 41 = .ok (.iload_n 1, 1) := dk_27 (dk_at dksX0_image_1 17 rfl rfl)
theorem dX0_image_42 : decode cX0_image 42 = .ok (.aaload, 1) := dk_50 (dk_at dksX0_image_1 18 rfl rfl)
theorem dX0_image_43 : decode cX0_image 43 = .ok (.aload_n 0, 1) := dk_42 (dk_at dksX0_image_1 19 rfl rfl)
theorem dX0_image_44 : decode cX0_image 44 = .ok (.getfield 10, 3) := dk_180 0 10 (dk_at dksX0_image_1 20 rfl rfl)
theorem dX0_image_47 : decode cX0_image 47 = .ok (.invokevirtual 134, 3) := dk_182 0 134 (dk_at dksX0_image_2 0 rfl rfl)
theorem dX0_image_50 : decode cX0_image 50 = .ok (.aload_n 0, 1) := dk_42 (dk_at dksX0_image_2 3 rfl rfl)
theorem dX0_image_51 : decode cX0_image 51 = .ok (.iconst 0, 1) := dk_3 (dk_at dksX0_image_2 4 rfl rfl)
theorem dX0_image_52 : decode cX0_image 52 = .ok (.invokevirtual 123, 3) := dk_182 0 123 (dk_at dksX0_image_2 5 rfl rfl)
theorem dX0_image_55 : decode cX0_image 55 = .ok (.ireturn, 1) := dk_172 (dk_at dksX0_image_2 8 rfl rfl)
def dkwX0_in_0 : List UInt8 := [26, 27, 161, 0, 12, 26, 28, 163, 0, 7, 4, 167, 0, 4, 3, 172]
abbrev dktX0_in_0 : List UInt8 := dkwX0_in_0 ++ []
theorem dksX0_in_0 : cX0_in.data.toList.drop 0 = dktX0_in_0 := by decide +kernel
theorem dX0_in_0 : decode cX0_in 0 = .ok (.iload_n 0, 1) := dk_26 (dk_at dksX0_in_0 0 rfl rfl)
theorem dX0_in_1 : decode cX0_in 1 = .ok (.iload_n 1, 1) := dk_27 (dk_at dksX0_in_0 1 rfl rfl)
theorem dX0_in_2 : decode cX0_in 2 = .ok (.if_icmp .lt 12, 3) := dk_161 0 12 (dk_at dksX0_in_0 2 rfl rfl)
theorem dX0_in_5 : decode cX0_in 5 = .ok (.iload_n 0, 1) := dk_26 (dk_at dksX0_in_0 5 rfl rfl)
theorem dX0_in_6 : decode cX0_in 6 = .ok (.iload_n 2, 1) := dk_28 (dk_at dksX0_in_0 6 rfl rfl)
theorem dX0_in_7 : decode cX0_in 7 = .ok (.if_icmp .gt 7, 3) := dk_163 0 7 (dk_at dksX0_in_0 7 rfl rfl)
theorem dX0_in_10 : decode cX0_in 10 = .ok (.iconst 1, 1) := dk_4 (dk_at dksX0_in_0 10 rfl rfl)
theorem dX0_in_11 : decode cX0_in 11 = .ok (.goto 4, 3) := dk_167 0 4 (dk_at dksX0_in_0 11 rfl rfl)
theorem dX0_in_14 : decode cX0_in 14 = .ok (.iconst 0, 1) := dk_3 (dk_at dksX0_in_0 14 rfl rfl)
theorem dX0_in_15 : decode cX0_in 15 = .ok (.ireturn, 1) := dk_172 (dk_at dksX0_in_0 15 rfl rfl)
def dkwX0_refuse_0 : List UInt8 := [42, 27, 181, 0, 117, 27, 172]
abbrev dktX0_refuse_0 : List UInt8 := dkwX0_refuse_0 ++ []
theorem dksX0_refuse_0 : cX0_refuse.data.toList.drop 0 = dktX0_refuse_0 := by decide +kernel
theorem dX0_refuse_0 : decode cX0_refuse 0 = .ok (.aload_n 0, 1) := dk_42 (dk_at dksX0_refuse_0 0 rfl rfl)
theorem dX0_refuse_1 : decode cX0_refuse 1 = .ok (.iload_n 1, 1) := dk_27 (dk_at dksX0_refuse_0 1 rfl rfl)
theorem dX0_refuse_2 : decode cX0_refuse 2 = .ok (.putfield 117, 3) := dk_181 0 117 (dk_at dksX0_refuse_0 2 rfl rfl)
theorem dX0_refuse_5 : decode cX0_refuse 5 = .ok (.iload_n 1, 1) := dk_27 (dk_at dksX0_refuse_0 5 rfl rfl)
theorem dX0_refuse_6 : decode cX0_refuse 6 = .ok (.ireturn, 1) := dk_172 (dk_at dksX0_refuse_0 6 rfl rfl)
def dkwX0_done_0 : List UInt8 := [42, 3, 181, 0, 117, 27, 172]
abbrev dktX0_done_0 : List UInt8 := dkwX0_done_0 ++ []
theorem dksX0_done_0 : cX0_done.data.toList.drop 0 = dktX0_done_0 := by decide +kernel
theorem dX0_done_0 : decode cX0_done 0 = .ok (.aload_n 0, 1) := dk_42 (dk_at dksX0_done_0 0 rfl rfl)
theorem dX0_done_1 : decode cX0_done 1 = .ok (.iconst 0, 1) := dk_3 (dk_at dksX0_done_0 1 rfl rfl)
theorem dX0_done_2 : decode cX0_done 2 = .ok (.putfield 117, 3) := dk_181 0 117 (dk_at dksX0_done_0 2 rfl rfl)
theorem dX0_done_5 : decode cX0_done 5 = .ok (.iload_n 1, 1) := dk_27 (dk_at dksX0_done_0 5 rfl rfl)
theorem dX0_done_6 : decode cX0_done 6 = .ok (.ireturn, 1) := dk_172 (dk_at dksX0_done_0 6 rfl rfl)
def dkwX0_back_2 : List UInt8 := [182, 0, 138, 172]
abbrev dktX0_back_2 : List UInt8 := dkwX0_back_2 ++ []
def dkwX0_back_1 : List UInt8 := [42, 16, 254, 182, 0, 131, 172, 42, 180, 0, 10, 42, 180, 0, 16, 27, 50, 182, 0, 134, 42, 3]
abbrev dktX0_back_1 : List UInt8 := dkwX0_back_1 ++ dktX0_back_2
def dkwX0_back_0 : List UInt8 := [27, 3, 4, 184, 0, 127, 154, 0, 9, 42, 2, 182, 0, 131, 172, 42, 180, 0, 16, 27, 50, 199, 0, 10]
abbrev dktX0_back_0 : List UInt8 := dkwX0_back_0 ++ dktX0_back_1
theorem dksX0_back_0 : cX0_back.data.toList.drop 0 = dktX0_back_0 := by decide +kernel
theorem dksX0_back_1 : cX0_back.data.toList.drop 24 = dktX0_back_1 := dk_seg dksX0_back_0 24 rfl rfl
theorem dksX0_back_2 : cX0_back.data.toList.drop 46 = dktX0_back_2 := dk_seg dksX0_back_1 22 rfl rfl
theorem dX0_back_0 : decode cX0_back 0 = .ok (.iload_n 1, 1) := dk_27 (dk_at dksX0_back_0 0 rfl rfl)
theorem dX0_back_1 : decode cX0_back 1 = .ok (.iconst 0, 1) := dk_3 (dk_at dksX0_back_0 1 rfl rfl)
theorem dX0_back_2 : decode cX0_back 2 = .ok (.iconst 1, 1) := dk_4 (dk_at dksX0_back_0 2 rfl rfl)
theorem dX0_back_3 : decode cX0_back 3 = .ok (.invokestatic 127, 3) := dk_184 0 127 (dk_at dksX0_back_0 3 rfl rfl)
theorem dX0_back_6 : decode cX0_back 6 = .ok (.ifCond .ne 9, 3) := dk_154 0 9 (dk_at dksX0_back_0 6 rfl rfl)
theorem dX0_back_9 : decode cX0_back 9 = .ok (.aload_n 0, 1) := dk_42 (dk_at dksX0_back_0 9 rfl rfl)
theorem dX0_back_10 : decode cX0_back 10 = .ok (.iconst (-1), 1) := dk_2 (dk_at dksX0_back_0 10 rfl rfl)
theorem dX0_back_11 : decode cX0_back 11 = .ok (.invokevirtual 131, 3) := dk_182 0 131 (dk_at dksX0_back_0 11 rfl rfl)
theorem dX0_back_14 : decode cX0_back 14 = .ok (.ireturn, 1) := dk_172 (dk_at dksX0_back_0 14 rfl rfl)
theorem dX0_back_15 : decode cX0_back 15 = .ok (.aload_n 0, 1) := dk_42 (dk_at dksX0_back_0 15 rfl rfl)
theorem dX0_back_16 : decode cX0_back 16 = .ok (.getfield 16, 3) := dk_180 0 16 (dk_at dksX0_back_0 16 rfl rfl)
theorem dX0_back_19 : decode cX0_back 19 = .ok (.iload_n 1, 1) := dk_27 (dk_at dksX0_back_0 19 rfl rfl)
theorem dX0_back_20 : decode cX0_back 20 = .ok (.aaload, 1) := dk_50 (dk_at dksX0_back_0 20 rfl rfl)
theorem dX0_back_21 : decode cX0_back 21 = .ok (.ifnonnull 10, 3) := dk_199 0 10 (dk_at dksX0_back_0 21 rfl rfl)
theorem dX0_back_24 : decode cX0_back 24 = .ok (.aload_n 0, 1) := dk_42 (dk_at dksX0_back_1 0 rfl rfl)
theorem dX0_back_25 : decode cX0_back 25 = .ok (.bipush (-2), 2) := dk_16 254 (dk_at dksX0_back_1 1 rfl rfl)
theorem dX0_back_27 : decode cX0_back 27 = .ok (.invokevirtual 131, 3) := dk_182 0 131 (dk_at dksX0_back_1 3 rfl rfl)
theorem dX0_back_30 : decode cX0_back 30 = .ok (.ireturn, 1) := dk_172 (dk_at dksX0_back_1 6 rfl rfl)
theorem dX0_back_31 : decode cX0_back 31 = .ok (.aload_n 0, 1) := dk_42 (dk_at dksX0_back_1 7 rfl rfl)
theorem dX0_back_32 : decode cX0_back 32 = .ok (.getfield 10, 3) := dk_180 0 10 (dk_at dksX0_back_1 8 rfl rfl)
theorem dX0_back_35 : decode cX0_back 35 = .ok (.aload_n 0, 1) := dk_42 (dk_at dksX0_back_1 11 rfl rfl)
theorem dX0_back_36 : decode cX0_back 36 = .ok (.getfield 16, 3) := dk_180 0 16 (dk_at dksX0_back_1 12 rfl rfl)
theorem dX0_back_39 : decode cX0_back 39 = .ok (.iload_n 1, 1) := dk_27 (dk_at dksX0_back_1 15 rfl rfl)
theorem dX0_back_40 : decode cX0_back 40 = .ok (.aaload, 1) := dk_50 (dk_at dksX0_back_1 16 rfl rfl)
theorem dX0_back_41 : decode cX0_back 41 = .ok (.invokevirtual 134, 3) := dk_182 0 134 (dk_at dksX0_back_1 17 rfl rfl)
theorem dX0_back_44 : decode cX0_back 44 = .ok (.aload_n 0, 1) := dk_42 (dk_at dksX0_back_1 20 rfl rfl)
theorem dX0_back_45 : decode cX0_back 45 = .ok (.iconst 0, 1) := dk_3 (dk_at dksX0_back_1 21 rfl rfl)
theorem dX0_back_46 : decode cX0_back 46 = .ok (.invokevirtual 138, 3) := dk_182 0 138 (dk_at dksX0_back_2 0 rfl rfl)
theorem dX0_back_49 : decode cX0_back 49 = .ok (.ireturn, 1) := dk_172 (dk_at dksX0_back_2 3 rfl rfl)
def dkwX0_told_0 : List UInt8 := [42, 89, 180, 0, 120, 4, 96, 181, 0, 120, 42, 27, 182, 0, 123, 172]
abbrev dktX0_told_0 : List UInt8 := dkwX0_told_0 ++ []
theorem dksX0_told_0 : cX0_told.data.toList.drop 0 = dktX0_told_0 := by decide +kernel
theorem dX0_told_0 : decode cX0_told 0 = .ok (.aload_n 0, 1) := dk_42 (dk_at dksX0_told_0 0 rfl rfl)
theorem dX0_told_1 : decode cX0_told 1 = .ok (.dup, 1) := dk_89 (dk_at dksX0_told_0 1 rfl rfl)
theorem dX0_told_2 : decode cX0_told 2 = .ok (.getfield 120, 3) := dk_180 0 120 (dk_at dksX0_told_0 2 rfl rfl)
theorem dX0_told_5 : decode cX0_told 5 = .ok (.iconst 1, 1) := dk_4 (dk_at dksX0_told_0 5 rfl rfl)
theorem dX0_told_6 : decode cX0_told 6 = .ok (.iadd, 1) := dk_96 (dk_at dksX0_told_0 6 rfl rfl)
theorem dX0_told_7 : decode cX0_told 7 = .ok (.putfield 120, 3) := dk_181 0 120 (dk_at dksX0_told_0 7 rfl rfl)
theorem dX0_told_10 : decode cX0_told 10 = .ok (.aload_n 0, 1) := dk_42 (dk_at dksX0_told_0 10 rfl rfl)
theorem dX0_told_11 : decode cX0_told 11 = .ok (.iload_n 1, 1) := dk_27 (dk_at dksX0_told_0 11 rfl rfl)
theorem dX0_told_12 : decode cX0_told 12 = .ok (.invokevirtual 123, 3) := dk_182 0 123 (dk_at dksX0_told_0 12 rfl rfl)
theorem dX0_told_15 : decode cX0_told 15 = .ok (.ireturn, 1) := dk_172 (dk_at dksX0_told_0 15 rfl rfl)
def dkwX0_place_5 : List UInt8 := [180, 0, 10, 180, 0, 141, 4, 100, 182, 0, 138, 172]
abbrev dktX0_place_5 : List UInt8 := dkwX0_place_5 ++ []
def dkwX0_place_4 : List UInt8 := [180, 0, 10, 180, 0, 141, 29, 79, 42, 180, 0, 10, 89, 180, 0, 141, 4, 96, 181, 0, 141, 42, 42]
abbrev dktX0_place_4 : List UInt8 := dkwX0_place_4 ++ dktX0_place_5
def dkwX0_place_3 : List UInt8 := [180, 0, 10, 180, 0, 163, 42, 180, 0, 10, 180, 0, 141, 28, 79, 42, 180, 0, 10, 180, 0, 166, 42]
abbrev dktX0_place_3 : List UInt8 := dkwX0_place_3 ++ dktX0_place_4
def dkwX0_place_2 : List UInt8 := [42, 16, 251, 182, 0, 131, 172, 42, 180, 0, 10, 180, 0, 160, 42, 180, 0, 10, 180, 0, 141, 27, 79, 42]
abbrev dktX0_place_2 : List UInt8 := dkwX0_place_2 ++ dktX0_place_3
def dkwX0_place_1 : List UInt8 := [184, 0, 127, 154, 0, 9, 42, 2, 182, 0, 131, 172, 42, 180, 0, 10, 180, 0, 141, 16, 16, 160, 0, 10]
abbrev dktX0_place_1 : List UInt8 := dkwX0_place_1 ++ dktX0_place_2
def dkwX0_place_0 : List UInt8 := [27, 3, 8, 184, 0, 127, 153, 0, 23, 28, 3, 16, 99, 184, 0, 127, 153, 0, 13, 29, 3, 16, 99]
abbrev dktX0_place_0 : List UInt8 := dkwX0_place_0 ++ dktX0_place_1
theorem dksX0_place_0 : cX0_place.data.toList.drop 0 = dktX0_place_0 := by decide +kernel
theorem dksX0_place_1 : cX0_place.data.toList.drop 23 = dktX0_place_1 := dk_seg dksX0_place_0 23 rfl rfl
theorem dksX0_place_2 : cX0_place.data.toList.drop 47 = dktX0_place_2 := dk_seg dksX0_place_1 24 rfl rfl
theorem dksX0_place_3 : cX0_place.data.toList.drop 71 = dktX0_place_3 := dk_seg dksX0_place_2 24 rfl rfl
theorem dksX0_place_4 : cX0_place.data.toList.drop 94 = dktX0_place_4 := dk_seg dksX0_place_3 23 rfl rfl
theorem dksX0_place_5 : cX0_place.data.toList.drop 117 = dktX0_place_5 := dk_seg dksX0_place_4 23 rfl rfl
theorem dX0_place_0 : decode cX0_place 0 = .ok (.iload_n 1, 1) := dk_27 (dk_at dksX0_place_0 0 rfl rfl)
theorem dX0_place_1 : decode cX0_place 1 = .ok (.iconst 0, 1) := dk_3 (dk_at dksX0_place_0 1 rfl rfl)
theorem dX0_place_2 : decode cX0_place 2 = .ok (.iconst 5, 1) := dk_8 (dk_at dksX0_place_0 2 rfl rfl)
theorem dX0_place_3 : decode cX0_place 3 = .ok (.invokestatic 127, 3) := dk_184 0 127 (dk_at dksX0_place_0 3 rfl rfl)
theorem dX0_place_6 : decode cX0_place 6 = .ok (.ifCond .eq 23, 3) := dk_153 0 23 (dk_at dksX0_place_0 6 rfl rfl)
theorem dX0_place_9 : decode cX0_place 9 = .ok (.iload_n 2, 1) := dk_28 (dk_at dksX0_place_0 9 rfl rfl)
theorem dX0_place_10 : decode cX0_place 10 = .ok (.iconst 0, 1) := dk_3 (dk_at dksX0_place_0 10 rfl rfl)
theorem dX0_place_11 : decode cX0_place 11 = .ok (.bipush 99, 2) := dk_16 99 (dk_at dksX0_place_0 11 rfl rfl)
theorem dX0_place_13 : decode cX0_place 13 = .ok (.invokestatic 127, 3) := dk_184 0 127 (dk_at dksX0_place_0 13 rfl rfl)
theorem dX0_place_16 : decode cX0_place 16 = .ok (.ifCond .eq 13, 3) := dk_153 0 13 (dk_at dksX0_place_0 16 rfl rfl)
theorem dX0_place_19 : decode cX0_place 19 = .ok (.iload_n 3, 1) := dk_29 (dk_at dksX0_place_0 19 rfl rfl)
theorem dX0_place_20 : decode cX0_place 20 = .ok (.iconst 0, 1) := dk_3 (dk_at dksX0_place_0 20 rfl rfl)
theorem dX0_place_21 : decode cX0_place 21 = .ok (.bipush 99, 2) := dk_16 99 (dk_at dksX0_place_0 21 rfl rfl)
theorem dX0_place_23 : decode cX0_place 23 = .ok (.invokestatic 127, 3) := dk_184 0 127 (dk_at dksX0_place_1 0 rfl rfl)
theorem dX0_place_26 : decode cX0_place 26 = .ok (.ifCond .ne 9, 3) := dk_154 0 9 (dk_at dksX0_place_1 3 rfl rfl)
theorem dX0_place_29 : decode cX0_place 29 = .ok (.aload_n 0, 1) := dk_42 (dk_at dksX0_place_1 6 rfl rfl)
theorem dX0_place_30 : decode cX0_place 30 = .ok (.iconst (-1), 1) := dk_2 (dk_at dksX0_place_1 7 rfl rfl)
theorem dX0_place_31 : decode cX0_place 31 = .ok (.invokevirtual 131, 3) := dk_182 0 131 (dk_at dksX0_place_1 8 rfl rfl)
theorem dX0_place_34 : decode cX0_place 34 = .ok (.ireturn, 1) := dk_172 (dk_at dksX0_place_1 11 rfl rfl)
theorem dX0_place_35 : decode cX0_place 35 = .ok (.aload_n 0, 1) := dk_42 (dk_at dksX0_place_1 12 rfl rfl)
theorem dX0_place_36 : decode cX0_place 36 = .ok (.getfield 10, 3) := dk_180 0 10 (dk_at dksX0_place_1 13 rfl rfl)
theorem dX0_place_39 : decode cX0_place 39 = .ok (.getfield 141, 3) := dk_180 0 141 (dk_at dksX0_place_1 16 rfl rfl)
theorem dX0_place_42 : decode cX0_place 42 = .ok (.bipush 16, 2) := dk_16 16 (dk_at dksX0_place_1 19 rfl rfl)
theorem dX0_place_44 : decode cX0_place 44 = .ok (.if_icmp .ne 10, 3) := dk_160 0 10 (dk_at dksX0_place_1 21 rfl rfl)
theorem dX0_place_47 : decode cX0_place 47 = .ok (.aload_n 0, 1) := dk_42 (dk_at dksX0_place_2 0 rfl rfl)
theorem dX0_place_48 : decode cX0_place 48 = .ok (.bipush (-5), 2) := dk_16 251 (dk_at dksX0_place_2 1 rfl rfl)
theorem dX0_place_50 : decode cX0_place 50 = .ok (.invokevirtual 131, 3) := dk_182 0 131 (dk_at dksX0_place_2 3 rfl rfl)
theorem dX0_place_53 : decode cX0_place 53 = .ok (.ireturn, 1) := dk_172 (dk_at dksX0_place_2 6 rfl rfl)
theorem dX0_place_54 : decode cX0_place 54 = .ok (.aload_n 0, 1) := dk_42 (dk_at dksX0_place_2 7 rfl rfl)
theorem dX0_place_55 : decode cX0_place 55 = .ok (.getfield 10, 3) := dk_180 0 10 (dk_at dksX0_place_2 8 rfl rfl)
theorem dX0_place_58 : decode cX0_place 58 = .ok (.getfield 160, 3) := dk_180 0 160 (dk_at dksX0_place_2 11 rfl rfl)
theorem dX0_place_61 : decode cX0_place 61 = .ok (.aload_n 0, 1) := dk_42 (dk_at dksX0_place_2 14 rfl rfl)
theorem dX0_place_62 : decode cX0_place 62 = .ok (.getfield 10, 3) := dk_180 0 10 (dk_at dksX0_place_2 15 rfl rfl)
theorem dX0_place_65 : decode cX0_place 65 = .ok (.getfield 141, 3) := dk_180 0 141 (dk_at dksX0_place_2 18 rfl rfl)
theorem dX0_place_68 : decode cX0_place 68 = .ok (.iload_n 1, 1) := dk_27 (dk_at dksX0_place_2 21 rfl rfl)
theorem dX0_place_69 : decode cX0_place 69 = .ok (.iastore, 1) := dk_79 (dk_at dksX0_place_2 22 rfl rfl)
theorem dX0_place_70 : decode cX0_place 70 = .ok (.aload_n 0, 1) := dk_42 (dk_at dksX0_place_2 23 rfl rfl)
theorem dX0_place_71 : decode cX0_place 71 = .ok (.getfield 10, 3) := dk_180 0 10 (dk_at dksX0_place_3 0 rfl rfl)
theorem dX0_place_74 : decode cX0_place 74 = .ok (.getfield 163, 3) := dk_180 0 163 (dk_at dksX0_place_3 3 rfl rfl)
theorem dX0_place_77 : decode cX0_place 77 = .ok (.aload_n 0, 1) := dk_42 (dk_at dksX0_place_3 6 rfl rfl)
theorem dX0_place_78 : decode cX0_place 78 = .ok (.getfield 10, 3) := dk_180 0 10 (dk_at dksX0_place_3 7 rfl rfl)
theorem dX0_place_81 : decode cX0_place 81 = .ok (.getfield 141, 3) := dk_180 0 141 (dk_at dksX0_place_3 10 rfl rfl)
theorem dX0_place_84 : decode cX0_place 84 = .ok (.iload_n 2, 1) := dk_28 (dk_at dksX0_place_3 13 rfl rfl)
theorem dX0_place_85 : decode cX0_place 85 = .ok (.iastore, 1) := dk_79 (dk_at dksX0_place_3 14 rfl rfl)
theorem dX0_place_86 : decode cX0_place 86 = .ok (.aload_n 0, 1) := dk_42 (dk_at dksX0_place_3 15 rfl rfl)
theorem dX0_place_87 : decode cX0_place 87 = .ok (.getfield 10, 3) := dk_180 0 10 (dk_at dksX0_place_3 16 rfl rfl)
theorem dX0_place_90 : decode cX0_place 90 = .ok (.getfield 166, 3) := dk_180 0 166 (dk_at dksX0_place_3 19 rfl rfl)
theorem dX0_place_93 : decode cX0_place 93 = .ok (.aload_n 0, 1) := dk_42 (dk_at dksX0_place_3 22 rfl rfl)
theorem dX0_place_94 : decode cX0_place 94 = .ok (.getfield 10, 3) := dk_180 0 10 (dk_at dksX0_place_4 0 rfl rfl)
theorem dX0_place_97 : decode cX0_place 97 = .ok (.getfield 141, 3) := dk_180 0 141 (dk_at dksX0_place_4 3 rfl rfl)
theorem dX0_place_100 : decode cX0_place 100 = .ok (.iload_n 3, 1) := dk_29 (dk_at dksX0_place_4 6 rfl rfl)
theorem dX0_place_101 : decode cX0_place 101 = .ok (.iastore, 1) := dk_79 (dk_at dksX0_place_4 7 rfl rfl)
theorem dX0_place_102 : decode cX0_place 102 = .ok (.aload_n 0, 1) := dk_42 (dk_at dksX0_place_4 8 rfl rfl)
theorem dX0_place_103 : decode cX0_place 103 = .ok (.getfield 10, 3) := dk_180 0 10 (dk_at dksX0_place_4 9 rfl rfl)
theorem dX0_place_106 : decode cX0_place 106 = .ok (.dup, 1) := dk_89 (dk_at dksX0_place_4 12 rfl rfl)
theorem dX0_place_107 : decode cX0_place 107 = .ok (.getfield 141, 3) := dk_180 0 141 (dk_at dksX0_place_4 13 rfl rfl)
theorem dX0_place_110 : decode cX0_place 110 = .ok (.iconst 1, 1) := dk_4 (dk_at dksX0_place_4 16 rfl rfl)
theorem dX0_place_111 : decode cX0_place 111 = .ok (.iadd, 1) := dk_96 (dk_at dksX0_place_4 17 rfl rfl)
theorem dX0_place_112 : decode cX0_place 112 = .ok (.putfield 141, 3) := dk_181 0 141 (dk_at dksX0_place_4 18 rfl rfl)
theorem dX0_place_115 : decode cX0_place 115 = .ok (.aload_n 0, 1) := dk_42 (dk_at dksX0_place_4 21 rfl rfl)
theorem dX0_place_116 : decode cX0_place 116 = .ok (.aload_n 0, 1) := dk_42 (dk_at dksX0_place_4 22 rfl rfl)
theorem dX0_place_117 : decode cX0_place 117 = .ok (.getfield 10, 3) := dk_180 0 10 (dk_at dksX0_place_5 0 rfl rfl)
theorem dX0_place_120 : decode cX0_place 120 = .ok (.getfield 141, 3) := dk_180 0 141 (dk_at dksX0_place_5 3 rfl rfl)
theorem dX0_place_123 : decode cX0_place 123 = .ok (.iconst 1, 1) := dk_4 (dk_at dksX0_place_5 6 rfl rfl)
theorem dX0_place_124 : decode cX0_place 124 = .ok (.isub, 1) := dk_100 (dk_at dksX0_place_5 7 rfl rfl)
theorem dX0_place_125 : decode cX0_place 125 = .ok (.invokevirtual 138, 3) := dk_182 0 138 (dk_at dksX0_place_5 8 rfl rfl)
theorem dX0_place_128 : decode cX0_place 128 = .ok (.ireturn, 1) := dk_172 (dk_at dksX0_place_5 11 rfl rfl)
def dkwX0_name_3 : List UInt8 := [21, 4, 21, 5, 21, 6, 182, 0, 207, 182, 0, 138, 172]
abbrev dktX0_name_3 : List UInt8 := dkwX0_name_3 ++ []
def dkwX0_name_2 : List UInt8 := [180, 0, 144, 182, 0, 148, 17, 0, 200, 160, 0, 10, 42, 16, 251, 182, 0, 131, 172, 42, 42, 27, 28, 29]
abbrev dktX0_name_2 : List UInt8 := dkwX0_name_2 ++ dktX0_name_3
def dkwX0_name_1 : List UInt8 := [182, 0, 131, 172, 42, 27, 182, 0, 204, 154, 0, 10, 42, 16, 254, 182, 0, 131, 172, 42, 180, 0, 10]
abbrev dktX0_name_1 : List UInt8 := dkwX0_name_1 ++ dktX0_name_2
def dkwX0_name_0 : List UInt8 := [28, 29, 21, 4, 21, 5, 184, 0, 197, 153, 0, 11, 21, 6, 184, 0, 201, 154, 0, 9, 42, 2]
abbrev dktX0_name_0 : List UInt8 := dkwX0_name_0 ++ dktX0_name_1
theorem dksX0_name_0 : cX0_name.data.toList.drop 0 = dktX0_name_0 := by decide +kernel
theorem dksX0_name_1 : cX0_name.data.toList.drop 22 = dktX0_name_1 := dk_seg dksX0_name_0 22 rfl rfl
theorem dksX0_name_2 : cX0_name.data.toList.drop 45 = dktX0_name_2 := dk_seg dksX0_name_1 23 rfl rfl
theorem dksX0_name_3 : cX0_name.data.toList.drop 69 = dktX0_name_3 := dk_seg dksX0_name_2 24 rfl rfl
theorem dX0_name_0 : decode cX0_name 0 = .ok (.iload_n 2, 1) := dk_28 (dk_at dksX0_name_0 0 rfl rfl)
theorem dX0_name_1 : decode cX0_name 1 = .ok (.iload_n 3, 1) := dk_29 (dk_at dksX0_name_0 1 rfl rfl)
theorem dX0_name_2 : decode cX0_name 2 = .ok (.iload 4, 2) := dk_21 4 (dk_at dksX0_name_0 2 rfl rfl)
theorem dX0_name_4 : decode cX0_name 4 = .ok (.iload 5, 2) := dk_21 5 (dk_at dksX0_name_0 4 rfl rfl)
theorem dX0_name_6 : decode cX0_name 6 = .ok (.invokestatic 197, 3) := dk_184 0 197 (dk_at dksX0_name_0 6 rfl rfl)
theorem dX0_name_9 : decode cX0_name 9 = .ok (.ifCond .eq 11, 3) := dk_153 0 11 (dk_at dksX0_name_0 9 rfl rfl)
theorem dX0_name_12 : decode cX0_name 12 = .ok (.iload 6, 2) := dk_21 6 (dk_at dksX0_name_0 12 rfl rfl)
theorem dX0_name_14 : decode cX0_name 14 = .ok (.invokestatic 201, 3) := dk_184 0 201 (dk_at dksX0_name_0 14 rfl rfl)
theorem dX0_name_17 : decode cX0_name 17 = .ok (.ifCond .ne 9, 3) := dk_154 0 9 (dk_at dksX0_name_0 17 rfl rfl)
theorem dX0_name_20 : decode cX0_name 20 = .ok (.aload_n 0, 1) := dk_42 (dk_at dksX0_name_0 20 rfl rfl)
theorem dX0_name_21 : decode cX0_name 21 = .ok (.iconst (-1), 1) := dk_2 (dk_at dksX0_name_0 21 rfl rfl)
theorem dX0_name_22 : decode cX0_name 22 = .ok (.invokevirtual 131, 3) := dk_182 0 131 (dk_at dksX0_name_1 0 rfl rfl)
theorem dX0_name_25 : decode cX0_name 25 = .ok (.ireturn, 1) := dk_172 (dk_at dksX0_name_1 3 rfl rfl)
theorem dX0_name_26 : decode cX0_name 26 = .ok (.aload_n 0, 1) := dk_42 (dk_at dksX0_name_1 4 rfl rfl)
theorem dX0_name_27 : decode cX0_name 27 = .ok (.iload_n 1, 1) := dk_27 (dk_at dksX0_name_1 5 rfl rfl)
theorem dX0_name_28 : decode cX0_name 28 = .ok (.invokevirtual 204, 3) := dk_182 0 204 (dk_at dksX0_name_1 6 rfl rfl)
theorem dX0_name_31 : decode cX0_name 31 = .ok (.ifCond .ne 10, 3) := dk_154 0 10 (dk_at dksX0_name_1 9 rfl rfl)
theorem dX0_name_34 : decode cX0_name 34 = .ok (.aload_n 0, 1) := dk_42 (dk_at dksX0_name_1 12 rfl rfl)
theorem dX0_name_35 : decode cX0_name 35 = .ok (.bipush (-2), 2) := dk_16 254 (dk_at dksX0_name_1 13 rfl rfl)
theorem dX0_name_37 : decode cX0_name 37 = .ok (.invokevirtual 131, 3) := dk_182 0 131 (dk_at dksX0_name_1 15 rfl rfl)
theorem dX0_name_40 : decode cX0_name 40 = .ok (.ireturn, 1) := dk_172 (dk_at dksX0_name_1 18 rfl rfl)
theorem dX0_name_41 : decode cX0_name 41 = .ok (.aload_n 0, 1) := dk_42 (dk_at dksX0_name_1 19 rfl rfl)
theorem dX0_name_42 : decode cX0_name 42 = .ok (.getfield 10, 3) := dk_180 0 10 (dk_at dksX0_name_1 20 rfl rfl)
theorem dX0_name_45 : decode cX0_name 45 = .ok (.getfield 144, 3) := dk_180 0 144 (dk_at dksX0_name_2 0 rfl rfl)
theorem dX0_name_48 : decode cX0_name 48 = .ok (.invokevirtual 148, 3) := dk_182 0 148 (dk_at dksX0_name_2 3 rfl rfl)
theorem dX0_name_51 : decode cX0_name 51 = .ok (.sipush 200, 3) := dk_17 0 200 (dk_at dksX0_name_2 6 rfl rfl)
theorem dX0_name_54 : decode cX0_name 54 = .ok (.if_icmp .ne 10, 3) := dk_160 0 10 (dk_at dksX0_name_2 9 rfl rfl)
theorem dX0_name_57 : decode cX0_name 57 = .ok (.aload_n 0, 1) := dk_42 (dk_at dksX0_name_2 12 rfl rfl)
theorem dX0_name_58 : decode cX0_name 58 = .ok (.bipush (-5), 2) := dk_16 251 (dk_at dksX0_name_2 13 rfl rfl)
theorem dX0_name_60 : decode cX0_name 60 = .ok (.invokevirtual 131, 3) := dk_182 0 131 (dk_at dksX0_name_2 15 rfl rfl)
theorem dX0_name_63 : decode cX0_name 63 = .ok (.ireturn, 1) := dk_172 (dk_at dksX0_name_2 18 rfl rfl)
theorem dX0_name_64 : decode cX0_name 64 = .ok (.aload_n 0, 1) := dk_42 (dk_at dksX0_name_2 19 rfl rfl)
theorem dX0_name_65 : decode cX0_name 65 = .ok (.aload_n 0, 1) := dk_42 (dk_at dksX0_name_2 20 rfl rfl)
theorem dX0_name_66 : decode cX0_name 66 = .ok (.iload_n 1, 1) := dk_27 (dk_at dksX0_name_2 21 rfl rfl)
theorem dX0_name_67 : decode cX0_name 67 = .ok (.iload_n 2, 1) := dk_28 (dk_at dksX0_name_2 22 rfl rfl)
theorem dX0_name_68 : decode cX0_name 68 = .ok (.iload_n 3, 1) := dk_29 (dk_at dksX0_name_2 23 rfl rfl)
theorem dX0_name_69 : decode cX0_name 69 = .ok (.iload 4, 2) := dk_21 4 (dk_at dksX0_name_3 0 rfl rfl)
theorem dX0_name_71 : decode cX0_name 71 = .ok (.iload 5, 2) := dk_21 5 (dk_at dksX0_name_3 2 rfl rfl)
theorem dX0_name_73 : decode cX0_name 73 = .ok (.iload 6, 2) := dk_21 6 (dk_at dksX0_name_3 4 rfl rfl)
theorem dX0_name_75 : decode cX0_name 75 = .ok (.invokevirtual 207, 3) := dk_182 0 207 (dk_at dksX0_name_3 6 rfl rfl)
theorem dX0_name_78 : decode cX0_name 78 = .ok (.invokevirtual 138, 3) := dk_182 0 138 (dk_at dksX0_name_3 9 rfl rfl)
theorem dX0_name_81 : decode cX0_name 81 = .ok (.ireturn, 1) := dk_172 (dk_at dksX0_name_3 12 rfl rfl)
def dkwX0_isOne_1 : List UInt8 := [184, 0, 127, 153, 0, 14, 29, 184, 0, 169, 153, 0, 7, 4, 167, 0, 4, 3, 172]
abbrev dktX0_isOne_1 : List UInt8 := dkwX0_isOne_1 ++ []
def dkwX0_isOne_0 : List UInt8 := [26, 3, 16, 99, 184, 0, 127, 153, 0, 33, 27, 3, 16, 120, 184, 0, 127, 153, 0, 23, 28, 3, 6]
abbrev dktX0_isOne_0 : List UInt8 := dkwX0_isOne_0 ++ dktX0_isOne_1
theorem dksX0_isOne_0 : cX0_isOne.data.toList.drop 0 = dktX0_isOne_0 := by decide +kernel
theorem dksX0_isOne_1 : cX0_isOne.data.toList.drop 23 = dktX0_isOne_1 := dk_seg dksX0_isOne_0 23 rfl rfl
theorem dX0_isOne_0 : decode cX0_isOne 0 = .ok (.iload_n 0, 1) := dk_26 (dk_at dksX0_isOne_0 0 rfl rfl)
theorem dX0_isOne_1 : decode cX0_isOne 1 = .ok (.iconst 0, 1) := dk_3 (dk_at dksX0_isOne_0 1 rfl rfl)
theorem dX0_isOne_2 : decode cX0_isOne 2 = .ok (.bipush 99, 2) := dk_16 99 (dk_at dksX0_isOne_0 2 rfl rfl)
theorem dX0_isOne_4 : decode cX0_isOne 4 = .ok (.invokestatic 127, 3) := dk_184 0 127 (dk_at dksX0_isOne_0 4 rfl rfl)
theorem dX0_isOne_7 : decode cX0_isOne 7 = .ok (.ifCond .eq 33, 3) := dk_153 0 33 (dk_at dksX0_isOne_0 7 rfl rfl)
theorem dX0_isOne_10 : decode cX0_isOne 10 = .ok (.iload_n 1, 1) := dk_27 (dk_at dksX0_isOne_0 10 rfl rfl)
theorem dX0_isOne_11 : decode cX0_isOne 11 = .ok (.iconst 0, 1) := dk_3 (dk_at dksX0_isOne_0 11 rfl rfl)
theorem dX0_isOne_12 : decode cX0_isOne 12 = .ok (.bipush 120, 2) := dk_16 120 (dk_at dksX0_isOne_0 12 rfl rfl)
theorem dX0_isOne_14 : decode cX0_isOne 14 = .ok (.invokestatic 127, 3) := dk_184 0 127 (dk_at dksX0_isOne_0 14 rfl rfl)
theorem dX0_isOne_17 : decode cX0_isOne 17 = .ok (.ifCond .eq 23, 3) := dk_153 0 23 (dk_at dksX0_isOne_0 17 rfl rfl)
theorem dX0_isOne_20 : decode cX0_isOne 20 = .ok (.iload_n 2, 1) := dk_28 (dk_at dksX0_isOne_0 20 rfl rfl)
theorem dX0_isOne_21 : decode cX0_isOne 21 = .ok (.iconst 0, 1) := dk_3 (dk_at dksX0_isOne_0 21 rfl rfl)
theorem dX0_isOne_22 : decode cX0_isOne 22 = .ok (.iconst 3, 1) := dk_6 (dk_at dksX0_isOne_0 22 rfl rfl)
theorem dX0_isOne_23 : decode cX0_isOne 23 = .ok (.invokestatic 127, 3) := dk_184 0 127 (dk_at dksX0_isOne_1 0 rfl rfl)
theorem dX0_isOne_26 : decode cX0_isOne 26 = .ok (.ifCond .eq 14, 3) := dk_153 0 14 (dk_at dksX0_isOne_1 3 rfl rfl)
theorem dX0_isOne_29 : decode cX0_isOne 29 = .ok (.iload_n 3, 1) := dk_29 (dk_at dksX0_isOne_1 6 rfl rfl)
theorem dX0_isOne_30 : decode cX0_isOne 30 = .ok (.invokestatic 169, 3) := dk_184 0 169 (dk_at dksX0_isOne_1 7 rfl rfl)
theorem dX0_isOne_33 : decode cX0_isOne 33 = .ok (.ifCond .eq 7, 3) := dk_153 0 7 (dk_at dksX0_isOne_1 10 rfl rfl)
theorem dX0_isOne_36 : decode cX0_isOne 36 = .ok (.iconst 1, 1) := dk_4 (dk_at dksX0_isOne_1 13 rfl rfl)
theorem dX0_isOne_37 : decode cX0_isOne 37 = .ok (.goto 4, 3) := dk_167 0 4 (dk_at dksX0_isOne_1 14 rfl rfl)
theorem dX0_isOne_40 : decode cX0_isOne 40 = .ok (.iconst 0, 1) := dk_3 (dk_at dksX0_isOne_1 17 rfl rfl)
theorem dX0_isOne_41 : decode cX0_isOne 41 = .ok (.ireturn, 1) := dk_172 (dk_at dksX0_isOne_1 18 rfl rfl)
def dkwX0_areLetters_1 : List UInt8 := [154, 0, 5, 3, 172, 132, 1, 1, 167, 255, 226, 4, 172]
abbrev dktX0_areLetters_1 : List UInt8 := dkwX0_areLetters_1 ++ []
def dkwX0_areLetters_0 : List UInt8 := [3, 60, 27, 7, 162, 0, 31, 26, 16, 8, 27, 104, 122, 17, 0, 255, 126, 16, 97, 16, 122, 184, 0, 127]
abbrev dktX0_areLetters_0 : List UInt8 := dkwX0_areLetters_0 ++ dktX0_areLetters_1
theorem dksX0_areLetters_0 : cX0_areLetters.data.toList.drop 0 = dktX0_areLetters_0 := by decide +kernel
theorem dksX0_areLetters_1 : cX0_areLetters.data.toList.drop 24 = dktX0_areLetters_1 := dk_seg dksX0_areLetters_0 24 rfl rfl
theorem dX0_areLetters_0 : decode cX0_areLetters 0 = .ok (.iconst 0, 1) := dk_3 (dk_at dksX0_areLetters_0 0 rfl rfl)
theorem dX0_areLetters_1 : decode cX0_areLetters 1 = .ok (.istore_n 1, 1) := dk_60 (dk_at dksX0_areLetters_0 1 rfl rfl)
theorem dX0_areLetters_2 : decode cX0_areLetters 2 = .ok (.iload_n 1, 1) := dk_27 (dk_at dksX0_areLetters_0 2 rfl rfl)
theorem dX0_areLetters_3 : decode cX0_areLetters 3 = .ok (.iconst 4, 1) := dk_7 (dk_at dksX0_areLetters_0 3 rfl rfl)
theorem dX0_areLetters_4 : decode cX0_areLetters 4 = .ok (.if_icmp .ge 31, 3) := dk_162 0 31 (dk_at dksX0_areLetters_0 4 rfl rfl)
theorem dX0_areLetters_7 : decode cX0_areLetters 7 = .ok (.iload_n 0, 1) := dk_26 (dk_at dksX0_areLetters_0 7 rfl rfl)
theorem dX0_areLetters_8 : decode cX0_areLetters 8 = .ok (.bipush 8, 2) := dk_16 8 (dk_at dksX0_areLetters_0 8 rfl rfl)
theorem dX0_areLetters_10 : decode cX0_areLetters 10 = .ok (.iload_n 1, 1) := dk_27 (dk_at dksX0_areLetters_0 10 rfl rfl)
theorem dX0_areLetters_11 : decode cX0_areLetters 11 = .ok (.imul, 1) := dk_104 (dk_at dksX0_areLetters_0 11 rfl rfl)
theorem dX0_areLetters_12 : decode cX0_areLetters 12 = .ok (.ishr, 1) := dk_122 (dk_at dksX0_areLetters_0 12 rfl rfl)
theorem dX0_areLetters_13 : decode cX0_areLetters 13 = .ok (.sipush 255, 3) := dk_17 0 255 (dk_at dksX0_areLetters_0 13 rfl rfl)
theorem dX0_areLetters_16 : decode cX0_areLetters 16 = .ok (.iand, 1) := dk_126 (dk_at dksX0_areLetters_0 16 rfl rfl)
theorem dX0_areLetters_17 : decode cX0_areLetters 17 = .ok (.bipush 97, 2) := dk_16 97 (dk_at dksX0_areLetters_0 17 rfl rfl)
theorem dX0_areLetters_19 : decode cX0_areLetters 19 = .ok (.bipush 122, 2) := dk_16 122 (dk_at dksX0_areLetters_0 19 rfl rfl)
theorem dX0_areLetters_21 : decode cX0_areLetters 21 = .ok (.invokestatic 127, 3) := dk_184 0 127 (dk_at dksX0_areLetters_0 21 rfl rfl)
theorem dX0_areLetters_24 : decode cX0_areLetters 24 = .ok (.ifCond .ne 5, 3) := dk_154 0 5 (dk_at dksX0_areLetters_1 0 rfl rfl)
theorem dX0_areLetters_27 : decode cX0_areLetters 27 = .ok (.iconst 0, 1) := dk_3 (dk_at dksX0_areLetters_1 3 rfl rfl)
theorem dX0_areLetters_28 : decode cX0_areLetters 28 = .ok (.ireturn, 1) := dk_172 (dk_at dksX0_areLetters_1 4 rfl rfl)
theorem dX0_areLetters_29 : decode cX0_areLetters 29 = .ok (.iinc 1 1, 3) := dk_132 1 1 (dk_at dksX0_areLetters_1 5 rfl rfl)
theorem dX0_areLetters_32 : decode cX0_areLetters 32 = .ok (.goto (-30), 3) := dk_167 255 226 (dk_at dksX0_areLetters_1 8 rfl rfl)
theorem dX0_areLetters_35 : decode cX0_areLetters 35 = .ok (.iconst 1, 1) := dk_4 (dk_at dksX0_areLetters_1 11 rfl rfl)
theorem dX0_areLetters_36 : decode cX0_areLetters 36 = .ok (.ireturn, 1) := dk_172 (dk_at dksX0_areLetters_1 12 rfl rfl)
def dkwX0_isDay_0 : List UInt8 := [26, 3, 17, 1, 143, 184, 0, 127, 172]
abbrev dktX0_isDay_0 : List UInt8 := dkwX0_isDay_0 ++ []
theorem dksX0_isDay_0 : cX0_isDay.data.toList.drop 0 = dktX0_isDay_0 := by decide +kernel
theorem dX0_isDay_0 : decode cX0_isDay 0 = .ok (.iload_n 0, 1) := dk_26 (dk_at dksX0_isDay_0 0 rfl rfl)
theorem dX0_isDay_1 : decode cX0_isDay 1 = .ok (.iconst 0, 1) := dk_3 (dk_at dksX0_isDay_0 1 rfl rfl)
theorem dX0_isDay_2 : decode cX0_isDay 2 = .ok (.sipush 399, 3) := dk_17 1 143 (dk_at dksX0_isDay_0 2 rfl rfl)
theorem dX0_isDay_5 : decode cX0_isDay 5 = .ok (.invokestatic 127, 3) := dk_184 0 127 (dk_at dksX0_isDay_0 5 rfl rfl)
theorem dX0_isDay_8 : decode cX0_isDay 8 = .ok (.ireturn, 1) := dk_172 (dk_at dksX0_isDay_0 8 rfl rfl)
def dkwX0_isPlace_0 : List UInt8 := [27, 3, 42, 180, 0, 10, 180, 0, 141, 4, 100, 184, 0, 127, 172]
abbrev dktX0_isPlace_0 : List UInt8 := dkwX0_isPlace_0 ++ []
theorem dksX0_isPlace_0 : cX0_isPlace.data.toList.drop 0 = dktX0_isPlace_0 := by decide +kernel
theorem dX0_isPlace_0 : decode cX0_isPlace 0 = .ok (.iload_n 1, 1) := dk_27 (dk_at dksX0_isPlace_0 0 rfl rfl)
theorem dX0_isPlace_1 : decode cX0_isPlace 1 = .ok (.iconst 0, 1) := dk_3 (dk_at dksX0_isPlace_0 1 rfl rfl)
theorem dX0_isPlace_2 : decode cX0_isPlace 2 = .ok (.aload_n 0, 1) := dk_42 (dk_at dksX0_isPlace_0 2 rfl rfl)
theorem dX0_isPlace_3 : decode cX0_isPlace 3 = .ok (.getfield 10, 3) := dk_180 0 10 (dk_at dksX0_isPlace_0 3 rfl rfl)
theorem dX0_isPlace_6 : decode cX0_isPlace 6 = .ok (.getfield 141, 3) := dk_180 0 141 (dk_at dksX0_isPlace_0 6 rfl rfl)
theorem dX0_isPlace_9 : decode cX0_isPlace 9 = .ok (.iconst 1, 1) := dk_4 (dk_at dksX0_isPlace_0 9 rfl rfl)
theorem dX0_isPlace_10 : decode cX0_isPlace 10 = .ok (.isub, 1) := dk_100 (dk_at dksX0_isPlace_0 10 rfl rfl)
theorem dX0_isPlace_11 : decode cX0_isPlace 11 = .ok (.invokestatic 127, 3) := dk_184 0 127 (dk_at dksX0_isPlace_0 11 rfl rfl)
theorem dX0_isPlace_14 : decode cX0_isPlace 14 = .ok (.ireturn, 1) := dk_172 (dk_at dksX0_isPlace_0 14 rfl rfl)
def dkwX0_adds_7 : List UInt8 := [2, 79, 42, 180, 0, 10, 180, 0, 194, 21, 7, 2, 79, 21, 7, 172]
abbrev dktX0_adds_7 : List UInt8 := dkwX0_adds_7 ++ []
def dkwX0_adds_6 : List UInt8 := [89, 27, 28, 29, 21, 5, 21, 6, 183, 0, 190, 182, 0, 178, 87, 42, 180, 0, 10, 180, 0, 191, 21, 7]
abbrev dktX0_adds_6 : List UInt8 := dkwX0_adds_6 ++ dktX0_adds_7
def dkwX0_adds_5 : List UInt8 := [21, 5, 21, 6, 183, 0, 187, 182, 0, 178, 87, 167, 0, 28, 42, 180, 0, 10, 180, 0, 144, 187, 0, 188]
abbrev dktX0_adds_5 : List UInt8 := dkwX0_adds_5 ++ dktX0_adds_6
def dkwX0_adds_4 : List UInt8 := [183, 0, 184, 182, 0, 178, 87, 167, 0, 56, 42, 180, 0, 10, 180, 0, 144, 187, 0, 185, 89, 27, 28, 29]
abbrev dktX0_adds_4 : List UInt8 := dkwX0_adds_4 ++ dktX0_adds_5
def dkwX0_adds_3 : List UInt8 := [87, 167, 0, 84, 42, 180, 0, 10, 180, 0, 144, 187, 0, 182, 89, 27, 28, 29, 21, 5, 21, 6]
abbrev dktX0_adds_3 : List UInt8 := dkwX0_adds_3 ++ dktX0_adds_4
def dkwX0_adds_2 : List UInt8 := [42, 180, 0, 10, 180, 0, 144, 187, 0, 173, 89, 27, 28, 29, 21, 5, 21, 6, 183, 0, 175, 182, 0, 178]
abbrev dktX0_adds_2 : List UInt8 := dkwX0_adds_2 ++ dktX0_adds_3
def dkwX0_adds_1 : List UInt8 := [170, 0, 0, 0, 0, 110, 0, 0, 0, 0, 0, 0, 0, 2, 0, 0, 0, 26, 0, 0, 0, 54, 0, 0, 0, 82]
abbrev dktX0_adds_1 : List UInt8 := dkwX0_adds_1 ++ dktX0_adds_2
def dkwX0_adds_0 : List UInt8 := [42, 180, 0, 10, 180, 0, 144, 182, 0, 148, 54, 7, 21, 4]
abbrev dktX0_adds_0 : List UInt8 := dkwX0_adds_0 ++ dktX0_adds_1
theorem dksX0_adds_0 : cX0_adds.data.toList.drop 0 = dktX0_adds_0 := by decide +kernel
theorem dksX0_adds_1 : cX0_adds.data.toList.drop 14 = dktX0_adds_1 := dk_seg dksX0_adds_0 14 rfl rfl
theorem dksX0_adds_2 : cX0_adds.data.toList.drop 40 = dktX0_adds_2 := dk_seg dksX0_adds_1 26 rfl rfl
theorem dksX0_adds_3 : cX0_adds.data.toList.drop 64 = dktX0_adds_3 := dk_seg dksX0_adds_2 24 rfl rfl
theorem dksX0_adds_4 : cX0_adds.data.toList.drop 86 = dktX0_adds_4 := dk_seg dksX0_adds_3 22 rfl rfl
theorem dksX0_adds_5 : cX0_adds.data.toList.drop 110 = dktX0_adds_5 := dk_seg dksX0_adds_4 24 rfl rfl
theorem dksX0_adds_6 : cX0_adds.data.toList.drop 134 = dktX0_adds_6 := dk_seg dksX0_adds_5 24 rfl rfl
theorem dksX0_adds_7 : cX0_adds.data.toList.drop 158 = dktX0_adds_7 := dk_seg dksX0_adds_6 24 rfl rfl
theorem dX0_adds_0 : decode cX0_adds 0 = .ok (.aload_n 0, 1) := dk_42 (dk_at dksX0_adds_0 0 rfl rfl)
theorem dX0_adds_1 : decode cX0_adds 1 = .ok (.getfield 10, 3) := dk_180 0 10 (dk_at dksX0_adds_0 1 rfl rfl)
theorem dX0_adds_4 : decode cX0_adds 4 = .ok (.getfield 144, 3) := dk_180 0 144 (dk_at dksX0_adds_0 4 rfl rfl)
theorem dX0_adds_7 : decode cX0_adds 7 = .ok (.invokevirtual 148, 3) := dk_182 0 148 (dk_at dksX0_adds_0 7 rfl rfl)
theorem dX0_adds_10 : decode cX0_adds 10 = .ok (.istore 7, 2) := dk_54 7 (dk_at dksX0_adds_0 10 rfl rfl)
theorem dX0_adds_12 : decode cX0_adds 12 = .ok (.iload 4, 2) := dk_21 4 (dk_at dksX0_adds_0 12 rfl rfl)
theorem dX0_adds_14 : decode cX0_adds 14 = .ok (.tableswitch 110 0 2 #[26, 54, 82], 26) := by decide +kernel
theorem dX0_adds_40 : decode cX0_adds 40 = .ok (.aload_n 0, 1) := dk_42 (dk_at dksX0_adds_2 0 rfl rfl)
theorem dX0_adds_41 : decode cX0_adds 41 = .ok (.getfield 10, 3) := dk_180 0 10 (dk_at dksX0_adds_2 1 rfl rfl)
theorem dX0_adds_44 : decode cX0_adds 44 = .ok (.getfield 144, 3) := dk_180 0 144 (dk_at dksX0_adds_2 4 rfl rfl)
theorem dX0_adds_47 : decode cX0_adds 47 = .ok (.new 173, 3) := dk_187 0 173 (dk_at dksX0_adds_2 7 rfl rfl)
theorem dX0_adds_50 : decode cX0_adds 50 = .ok (.dup, 1) := dk_89 (dk_at dksX0_adds_2 10 rfl rfl)
theorem dX0_adds_51 : decode cX0_adds 51 = .ok (.iload_n 1, 1) := dk_27 (dk_at dksX0_adds_2 11 rfl rfl)
theorem dX0_adds_52 : decode cX0_adds 52 = .ok (.iload_n 2, 1) := dk_28 (dk_at dksX0_adds_2 12 rfl rfl)
theorem dX0_adds_53 : decode cX0_adds 53 = .ok (.iload_n 3, 1) := dk_29 (dk_at dksX0_adds_2 13 rfl rfl)
theorem dX0_adds_54 : decode cX0_adds 54 = .ok (.iload 5, 2) := dk_21 5 (dk_at dksX0_adds_2 14 rfl rfl)
theorem dX0_adds_56 : decode cX0_adds 56 = .ok (.iload 6, 2) := dk_21 6 (dk_at dksX0_adds_2 16 rfl rfl)
theorem dX0_adds_58 : decode cX0_adds 58 = .ok (.invokespecial 175, 3) := dk_183 0 175 (dk_at dksX0_adds_2 18 rfl rfl)
theorem dX0_adds_61 : decode cX0_adds 61 = .ok (.invokevirtual 178, 3) := dk_182 0 178 (dk_at dksX0_adds_2 21 rfl rfl)
theorem dX0_adds_64 : decode cX0_adds 64 = .ok (.pop, 1) := dk_87 (dk_at dksX0_adds_3 0 rfl rfl)
theorem dX0_adds_65 : decode cX0_adds 65 = .ok (.goto 84, 3) := dk_167 0 84 (dk_at dksX0_adds_3 1 rfl rfl)
theorem dX0_adds_68 : decode cX0_adds 68 = .ok (.aload_n 0, 1) := dk_42 (dk_at dksX0_adds_3 4 rfl rfl)
theorem dX0_adds_69 : decode cX0_adds 69 = .ok (.getfield 10, 3) := dk_180 0 10 (dk_at dksX0_adds_3 5 rfl rfl)
theorem dX0_adds_72 : decode cX0_adds 72 = .ok (.getfield 144, 3) := dk_180 0 144 (dk_at dksX0_adds_3 8 rfl rfl)
theorem dX0_adds_75 : decode cX0_adds 75 = .ok (.new 182, 3) := dk_187 0 182 (dk_at dksX0_adds_3 11 rfl rfl)
theorem dX0_adds_78 : decode cX0_adds 78 = .ok (.dup, 1) := dk_89 (dk_at dksX0_adds_3 14 rfl rfl)
theorem dX0_adds_79 : decode cX0_adds 79 = .ok (.iload_n 1, 1) := dk_27 (dk_at dksX0_adds_3 15 rfl rfl)
theorem dX0_adds_80 : decode cX0_adds 80 = .ok (.iload_n 2, 1) := dk_28 (dk_at dksX0_adds_3 16 rfl rfl)
theorem dX0_adds_81 : decode cX0_adds 81 = .ok (.iload_n 3, 1) := dk_29 (dk_at dksX0_adds_3 17 rfl rfl)
theorem dX0_adds_82 : decode cX0_adds 82 = .ok (.iload 5, 2) := dk_21 5 (dk_at dksX0_adds_3 18 rfl rfl)
theorem dX0_adds_84 : decode cX0_adds 84 = .ok (.iload 6, 2) := dk_21 6 (dk_at dksX0_adds_3 20 rfl rfl)
theorem dX0_adds_86 : decode cX0_adds 86 = .ok (.invokespecial 184, 3) := dk_183 0 184 (dk_at dksX0_adds_4 0 rfl rfl)
theorem dX0_adds_89 : decode cX0_adds 89 = .ok (.invokevirtual 178, 3) := dk_182 0 178 (dk_at dksX0_adds_4 3 rfl rfl)
theorem dX0_adds_92 : decode cX0_adds 92 = .ok (.pop, 1) := dk_87 (dk_at dksX0_adds_4 6 rfl rfl)
theorem dX0_adds_93 : decode cX0_adds 93 = .ok (.goto 56, 3) := dk_167 0 56 (dk_at dksX0_adds_4 7 rfl rfl)
theorem dX0_adds_96 : decode cX0_adds 96 = .ok (.aload_n 0, 1) := dk_42 (dk_at dksX0_adds_4 10 rfl rfl)
theorem dX0_adds_97 : decode cX0_adds 97 = .ok (.getfield 10, 3) := dk_180 0 10 (dk_at dksX0_adds_4 11 rfl rfl)
theorem dX0_adds_100 : decode cX0_adds 100 = .ok (.getfield 144, 3) := dk_180 0 144 (dk_at dksX0_adds_4 14 rfl rfl)
theorem dX0_adds_103 : decode cX0_adds 103 = .ok (.new 185, 3) := dk_187 0 185 (dk_at dksX0_adds_4 17 rfl rfl)
theorem dX0_adds_106 : decode cX0_adds 106 = .ok (.dup, 1) := dk_89 (dk_at dksX0_adds_4 20 rfl rfl)
theorem dX0_adds_107 : decode cX0_adds 107 = .ok (.iload_n 1, 1) := dk_27 (dk_at dksX0_adds_4 21 rfl rfl)
theorem dX0_adds_108 : decode cX0_adds 108 = .ok (.iload_n 2, 1) := dk_28 (dk_at dksX0_adds_4 22 rfl rfl)
theorem dX0_adds_109 : decode cX0_adds 109 = .ok (.iload_n 3, 1) := dk_29 (dk_at dksX0_adds_4 23 rfl rfl)
theorem dX0_adds_110 : decode cX0_adds 110 = .ok (.iload 5, 2) := dk_21 5 (dk_at dksX0_adds_5 0 rfl rfl)
theorem dX0_adds_112 : decode cX0_adds 112 = .ok (.iload 6, 2) := dk_21 6 (dk_at dksX0_adds_5 2 rfl rfl)
theorem dX0_adds_114 : decode cX0_adds 114 = .ok (.invokespecial 187, 3) := dk_183 0 187 (dk_at dksX0_adds_5 4 rfl rfl)
theorem dX0_adds_117 : decode cX0_adds 117 = .ok (.invokevirtual 178, 3) := dk_182 0 178 (dk_at dksX0_adds_5 7 rfl rfl)
theorem dX0_adds_120 : decode cX0_adds 120 = .ok (.pop, 1) := dk_87 (dk_at dksX0_adds_5 10 rfl rfl)
theorem dX0_adds_121 : decode cX0_adds 121 = .ok (.goto 28, 3) := dk_167 0 28 (dk_at dksX0_adds_5 11 rfl rfl)
theorem dX0_adds_124 : decode cX0_adds 124 = .ok (.aload_n 0, 1) := dk_42 (dk_at dksX0_adds_5 14 rfl rfl)
theorem dX0_adds_125 : decode cX0_adds 125 = .ok (.getfield 10, 3) := dk_180 0 10 (dk_at dksX0_adds_5 15 rfl rfl)
theorem dX0_adds_128 : decode cX0_adds 128 = .ok (.getfield 144, 3) := dk_180 0 144 (dk_at dksX0_adds_5 18 rfl rfl)
theorem dX0_adds_131 : decode cX0_adds 131 = .ok (.new 188, 3) := dk_187 0 188 (dk_at dksX0_adds_5 21 rfl rfl)
theorem dX0_adds_134 : decode cX0_adds 134 = .ok (.dup, 1) := dk_89 (dk_at dksX0_adds_6 0 rfl rfl)
theorem dX0_adds_135 : decode cX0_adds 135 = .ok (.iload_n 1, 1) := dk_27 (dk_at dksX0_adds_6 1 rfl rfl)
theorem dX0_adds_136 : decode cX0_adds 136 = .ok (.iload_n 2, 1) := dk_28 (dk_at dksX0_adds_6 2 rfl rfl)
theorem dX0_adds_137 : decode cX0_adds 137 = .ok (.iload_n 3, 1) := dk_29 (dk_at dksX0_adds_6 3 rfl rfl)
theorem dX0_adds_138 : decode cX0_adds 138 = .ok (.iload 5, 2) := dk_21 5 (dk_at dksX0_adds_6 4 rfl rfl)
theorem dX0_adds_140 : decode cX0_adds 140 = .ok (.iload 6, 2) := dk_21 6 (dk_at dksX0_adds_6 6 rfl rfl)
theorem dX0_adds_142 : decode cX0_adds 142 = .ok (.invokespecial 190, 3) := dk_183 0 190 (dk_at dksX0_adds_6 8 rfl rfl)
theorem dX0_adds_145 : decode cX0_adds 145 = .ok (.invokevirtual 178, 3) := dk_182 0 178 (dk_at dksX0_adds_6 11 rfl rfl)
theorem dX0_adds_148 : decode cX0_adds 148 = .ok (.pop, 1) := dk_87 (dk_at dksX0_adds_6 14 rfl rfl)
theorem dX0_adds_149 : decode cX0_adds 149 = .ok (.aload_n 0, 1) := dk_42 (dk_at dksX0_adds_6 15 rfl rfl)
theorem dX0_adds_150 : decode cX0_adds 150 = .ok (.getfield 10, 3) := dk_180 0 10 (dk_at dksX0_adds_6 16 rfl rfl)
theorem dX0_adds_153 : decode cX0_adds 153 = .ok (.getfield 191, 3) := dk_180 0 191 (dk_at dksX0_adds_6 19 rfl rfl)
theorem dX0_adds_156 : decode cX0_adds 156 = .ok (.iload 7, 2) := dk_21 7 (dk_at dksX0_adds_6 22 rfl rfl)
theorem dX0_adds_158 : decode cX0_adds 158 = .ok (.iconst (-1), 1) := dk_2 (dk_at dksX0_adds_7 0 rfl rfl)
theorem dX0_adds_159 : decode cX0_adds 159 = .ok (.iastore, 1) := dk_79 (dk_at dksX0_adds_7 1 rfl rfl)
theorem dX0_adds_160 : decode cX0_adds 160 = .ok (.aload_n 0, 1) := dk_42 (dk_at dksX0_adds_7 2 rfl rfl)
theorem dX0_adds_161 : decode cX0_adds 161 = .ok (.getfield 10, 3) := dk_180 0 10 (dk_at dksX0_adds_7 3 rfl rfl)
theorem dX0_adds_164 : decode cX0_adds 164 = .ok (.getfield 194, 3) := dk_180 0 194 (dk_at dksX0_adds_7 6 rfl rfl)
theorem dX0_adds_167 : decode cX0_adds 167 = .ok (.iload 7, 2) := dk_21 7 (dk_at dksX0_adds_7 9 rfl rfl)
theorem dX0_adds_169 : decode cX0_adds 169 = .ok (.iconst (-1), 1) := dk_2 (dk_at dksX0_adds_7 11 rfl rfl)
theorem dX0_adds_170 : decode cX0_adds 170 = .ok (.iastore, 1) := dk_79 (dk_at dksX0_adds_7 12 rfl rfl)
theorem dX0_adds_171 : decode cX0_adds 171 = .ok (.iload 7, 2) := dk_21 7 (dk_at dksX0_adds_7 13 rfl rfl)
theorem dX0_adds_173 : decode cX0_adds 173 = .ok (.ireturn, 1) := dk_172 (dk_at dksX0_adds_7 15 rfl rfl)
def dkwX0_row_4 : List UInt8 := [42, 25, 4, 27, 28, 182, 0, 222, 182, 0, 138, 172]
abbrev dktX0_row_4 : List UInt8 := dkwX0_row_4 ++ []
def dkwX0_row_3 : List UInt8 := [16, 250, 182, 0, 131, 172, 29, 188, 8, 58, 4, 42, 180, 0, 20, 3, 25, 4, 3, 29, 184, 0, 216, 42]
abbrev dktX0_row_3 : List UInt8 := dkwX0_row_3 ++ dktX0_row_4
def dkwX0_row_2 : List UInt8 := [29, 16, 7, 108, 96, 17, 0, 200, 164, 0, 10, 42, 16, 251, 182, 0, 131, 172, 29, 154, 0, 10, 42]
abbrev dktX0_row_2 : List UInt8 := dkwX0_row_2 ++ dktX0_row_3
def dkwX0_row_1 : List UInt8 := [27, 182, 0, 204, 154, 0, 10, 42, 16, 254, 182, 0, 131, 172, 42, 180, 0, 10, 180, 0, 144, 182, 0, 148]
abbrev dktX0_row_1 : List UInt8 := dkwX0_row_1 ++ dktX0_row_2
def dkwX0_row_0 : List UInt8 := [42, 180, 0, 213, 62, 42, 3, 181, 0, 213, 28, 184, 0, 201, 154, 0, 9, 42, 2, 182, 0, 131, 172, 42]
abbrev dktX0_row_0 : List UInt8 := dkwX0_row_0 ++ dktX0_row_1
theorem dksX0_row_0 : cX0_row.data.toList.drop 0 = dktX0_row_0 := by decide +kernel
theorem dksX0_row_1 : cX0_row.data.toList.drop 24 = dktX0_row_1 := dk_seg dksX0_row_0 24 rfl rfl
theorem dksX0_row_2 : cX0_row.data.toList.drop 48 = dktX0_row_2 := dk_seg dksX0_row_1 24 rfl rfl
theorem dksX0_row_3 : cX0_row.data.toList.drop 71 = dktX0_row_3 := dk_seg dksX0_row_2 23 rfl rfl
theorem dksX0_row_4 : cX0_row.data.toList.drop 95 = dktX0_row_4 := dk_seg dksX0_row_3 24 rfl rfl
theorem dX0_row_0 : decode cX0_row 0 = .ok (.aload_n 0, 1) := dk_42 (dk_at dksX0_row_0 0 rfl rfl)
theorem dX0_row_1 : decode cX0_row 1 = .ok (.getfield 213, 3) := dk_180 0 213 (dk_at dksX0_row_0 1 rfl rfl)
theorem dX0_row_4 : decode cX0_row 4 = .ok (.istore_n 3, 1) := dk_62 (dk_at dksX0_row_0 4 rfl rfl)
theorem dX0_row_5 : decode cX0_row 5 = .ok (.aload_n 0, 1) := dk_42 (dk_at dksX0_row_0 5 rfl rfl)
theorem dX0_row_6 : decode cX0_row 6 = .ok (.iconst 0, 1) := dk_3 (dk_at dksX0_row_0 6 rfl rfl)
theorem dX0_row_7 : decode cX0_row 7 = .ok (.putfield 213, 3) := dk_181 0 213 (dk_at dksX0_row_0 7 rfl rfl)
theorem dX0_row_10 : decode cX0_row 10 = .ok (.iload_n 2, 1) := dk_28 (dk_at dksX0_row_0 10 rfl rfl)
theorem dX0_row_11 : decode cX0_row 11 = .ok (.invokestatic 201, 3) := dk_184 0 201 (dk_at dksX0_row_0 11 rfl rfl)
theorem dX0_row_14 : decode cX0_row 14 = .ok (.ifCond .ne 9, 3) := dk_154 0 9 (dk_at dksX0_row_0 14 rfl rfl)
theorem dX0_row_17 : decode cX0_row 17 = .ok (.aload_n 0, 1) := dk_42 (dk_at dksX0_row_0 17 rfl rfl)
theorem dX0_row_18 : decode cX0_row 18 = .ok (.iconst (-1), 1) := dk_2 (dk_at dksX0_row_0 18 rfl rfl)
theorem dX0_row_19 : decode cX0_row 19 = .ok (.invokevirtual 131, 3) := dk_182 0 131 (dk_at dksX0_row_0 19 rfl rfl)
theorem dX0_row_22 : decode cX0_row 22 = .ok (.ireturn, 1) := dk_172 (dk_at dksX0_row_0 22 rfl rfl)
theorem dX0_row_23 : decode cX0_row 23 = .ok (.aload_n 0, 1) := dk_42 (dk_at dksX0_row_0 23 rfl rfl)
theorem dX0_row_24 : decode cX0_row 24 = .ok (.iload_n 1, 1) := dk_27 (dk_at dksX0_row_1 0 rfl rfl)
theorem dX0_row_25 : decode cX0_row 25 = .ok (.invokevirtual 204, 3) := dk_182 0 204 (dk_at dksX0_row_1 1 rfl rfl)
theorem dX0_row_28 : decode cX0_row 28 = .ok (.ifCond .ne 10, 3) := dk_154 0 10 (dk_at dksX0_row_1 4 rfl rfl)
theorem dX0_row_31 : decode cX0_row 31 = .ok (.aload_n 0, 1) := dk_42 (dk_at dksX0_row_1 7 rfl rfl)
theorem dX0_row_32 : decode cX0_row 32 = .ok (.bipush (-2), 2) := dk_16 254 (dk_at dksX0_row_1 8 rfl rfl)
theorem dX0_row_34 : decode cX0_row 34 = .ok (.invokevirtual 131, 3) := dk_182 0 131 (dk_at dksX0_row_1 10 rfl rfl)
theorem dX0_row_37 : decode cX0_row 37 = .ok (.ireturn, 1) := dk_172 (dk_at dksX0_row_1 13 rfl rfl)
theorem dX0_row_38 : decode cX0_row 38 = .ok (.aload_n 0, 1) := dk_42 (dk_at dksX0_row_1 14 rfl rfl)
theorem dX0_row_39 : decode cX0_row 39 = .ok (.getfield 10, 3) := dk_180 0 10 (dk_at dksX0_row_1 15 rfl rfl)
theorem dX0_row_42 : decode cX0_row 42 = .ok (.getfield 144, 3) := dk_180 0 144 (dk_at dksX0_row_1 18 rfl rfl)
theorem dX0_row_45 : decode cX0_row 45 = .ok (.invokevirtual 148, 3) := dk_182 0 148 (dk_at dksX0_row_1 21 rfl rfl)
theorem dX0_row_48 : decode cX0_row 48 = .ok (.iload_n 3, 1) := dk_29 (dk_at dksX0_row_2 0 rfl rfl)
theorem dX0_row_49 : decode cX0_row 49 = .ok (.bipush 7, 2) := dk_16 7 (dk_at dksX0_row_2 1 rfl rfl)
theorem dX0_row_51 : decode cX0_row 51 = .ok (.idiv, 1) := dk_108 (dk_at dksX0_row_2 3 rfl rfl)
theorem dX0_row_52 : decode cX0_row 52 = .ok (.iadd, 1) := dk_96 (dk_at dksX0_row_2 4 rfl rfl)
theorem dX0_row_53 : decode cX0_row 53 = .ok (.sipush 200, 3) := dk_17 0 200 (dk_at dksX0_row_2 5 rfl rfl)
theorem dX0_row_56 : decode cX0_row 56 = .ok (.if_icmp .le 10, 3) := dk_164 0 10 (dk_at dksX0_row_2 8 rfl rfl)
theorem dX0_row_59 : decode cX0_row 59 = .ok (.aload_n 0, 1) := dk_42 (dk_at dksX0_row_2 11 rfl rfl)
theorem dX0_row_60 : decode cX0_row 60 = .ok (.bipush (-5), 2) := dk_16 251 (dk_at dksX0_row_2 12 rfl rfl)
theorem dX0_row_62 : decode cX0_row 62 = .ok (.invokevirtual 131, 3) := dk_182 0 131 (dk_at dksX0_row_2 14 rfl rfl)
theorem dX0_row_65 : decode cX0_row 65 = .ok (.ireturn, 1) := dk_172 (dk_at dksX0_row_2 17 rfl rfl)
theorem dX0_row_66 : decode cX0_row 66 = .ok (.iload_n 3, 1) := dk_29 (dk_at dksX0_row_2 18 rfl rfl)
theorem dX0_row_67 : decode cX0_row 67 = .ok (.ifCond .ne 10, 3) := dk_154 0 10 (dk_at dksX0_row_2 19 rfl rfl)
theorem dX0_row_70 : decode cX0_row 70 = .ok (.aload_n 0, 1) := dk_42 (dk_at dksX0_row_2 22 rfl rfl)
theorem dX0_row_71 : decode cX0_row 71 = .ok (.bipush (-6), 2) := dk_16 250 (dk_at dksX0_row_3 0 rfl rfl)
theorem dX0_row_73 : decode cX0_row 73 = .ok (.invokevirtual 131, 3) := dk_182 0 131 (dk_at dksX0_row_3 2 rfl rfl)
theorem dX0_row_76 : decode cX0_row 76 = .ok (.ireturn, 1) := dk_172 (dk_at dksX0_row_3 5 rfl rfl)
theorem dX0_row_77 : decode cX0_row 77 = .ok (.iload_n 3, 1) := dk_29 (dk_at dksX0_row_3 6 rfl rfl)
theorem dX0_row_78 : decode cX0_row 78 = .ok (.newarray .byte, 2) := dk_188_8 (dk_at dksX0_row_3 7 rfl rfl)
theorem dX0_row_80 : decode cX0_row 80 = .ok (.astore 4, 2) := dk_58 4 (dk_at dksX0_row_3 9 rfl rfl)
theorem dX0_row_82 : decode cX0_row 82 = .ok (.aload_n 0, 1) := dk_42 (dk_at dksX0_row_3 11 rfl rfl)
theorem dX0_row_83 : decode cX0_row 83 = .ok (.getfield 20, 3) := dk_180 0 20 (dk_at dksX0_row_3 12 rfl rfl)
theorem dX0_row_86 : decode cX0_row 86 = .ok (.iconst 0, 1) := dk_3 (dk_at dksX0_row_3 15 rfl rfl)
theorem dX0_row_87 : decode cX0_row 87 = .ok (.aload 4, 2) := dk_25 4 (dk_at dksX0_row_3 16 rfl rfl)
theorem dX0_row_89 : decode cX0_row 89 = .ok (.iconst 0, 1) := dk_3 (dk_at dksX0_row_3 18 rfl rfl)
theorem dX0_row_90 : decode cX0_row 90 = .ok (.iload_n 3, 1) := dk_29 (dk_at dksX0_row_3 19 rfl rfl)
theorem dX0_row_91 : decode cX0_row 91 = .ok (.invokestatic 216, 3) := dk_184 0 216 (dk_at dksX0_row_3 20 rfl rfl)
theorem dX0_row_94 : decode cX0_row 94 = .ok (.aload_n 0, 1) := dk_42 (dk_at dksX0_row_3 23 rfl rfl)
theorem dX0_row_95 : decode cX0_row 95 = .ok (.aload_n 0, 1) := dk_42 (dk_at dksX0_row_4 0 rfl rfl)
theorem dX0_row_96 : decode cX0_row 96 = .ok (.aload 4, 2) := dk_25 4 (dk_at dksX0_row_4 1 rfl rfl)
theorem dX0_row_98 : decode cX0_row 98 = .ok (.iload_n 1, 1) := dk_27 (dk_at dksX0_row_4 3 rfl rfl)
theorem dX0_row_99 : decode cX0_row 99 = .ok (.iload_n 2, 1) := dk_28 (dk_at dksX0_row_4 4 rfl rfl)
theorem dX0_row_100 : decode cX0_row 100 = .ok (.invokevirtual 222, 3) := dk_182 0 222 (dk_at dksX0_row_4 5 rfl rfl)
theorem dX0_row_103 : decode cX0_row 103 = .ok (.invokevirtual 138, 3) := dk_182 0 138 (dk_at dksX0_row_4 8 rfl rfl)
theorem dX0_row_106 : decode cX0_row 106 = .ok (.ireturn, 1) := dk_172 (dk_at dksX0_row_4 11 rfl rfl)
def dkwX0_reads_5 : List UInt8 := [132, 4, 1, 132, 5, 7, 167, 255, 140, 167, 0, 8, 58, 5, 21, 4, 172, 21, 4, 172]
abbrev dktX0_reads_5 : List UInt8 := dkwX0_reads_5 ++ []
def dkwX0_reads_4 : List UInt8 := [43, 21, 5, 51, 43, 21, 5, 4, 96, 51, 43, 21, 5, 5, 96, 51, 21, 6, 29, 182, 0, 207, 87]
abbrev dktX0_reads_4 : List UInt8 := dkwX0_reads_4 ++ dktX0_reads_5
def dkwX0_reads_3 : List UInt8 := [21, 5, 4, 96, 51, 43, 21, 5, 5, 96, 51, 21, 6, 184, 0, 197, 154, 0, 6, 167, 0, 31, 42, 28]
abbrev dktX0_reads_3 : List UInt8 := dkwX0_reads_3 ++ dktX0_reads_4
def dkwX0_reads_2 : List UInt8 := [16, 8, 120, 128, 43, 21, 5, 16, 6, 96, 51, 17, 0, 255, 126, 128, 54, 6, 43, 21, 5, 51, 43]
abbrev dktX0_reads_2 : List UInt8 := dkwX0_reads_2 ++ dktX0_reads_3
def dkwX0_reads_1 : List UInt8 := [21, 5, 7, 96, 51, 17, 0, 255, 126, 16, 16, 120, 128, 43, 21, 5, 8, 96, 51, 17, 0, 255, 126]
abbrev dktX0_reads_1 : List UInt8 := dkwX0_reads_1 ++ dktX0_reads_2
def dkwX0_reads_0 : List UInt8 := [3, 54, 4, 3, 54, 5, 21, 5, 43, 190, 162, 0, 115, 43, 21, 5, 6, 96, 51, 16, 24, 120, 43]
abbrev dktX0_reads_0 : List UInt8 := dkwX0_reads_0 ++ dktX0_reads_1
theorem dksX0_reads_0 : cX0_reads.data.toList.drop 0 = dktX0_reads_0 := by decide +kernel
theorem dksX0_reads_1 : cX0_reads.data.toList.drop 23 = dktX0_reads_1 := dk_seg dksX0_reads_0 23 rfl rfl
theorem dksX0_reads_2 : cX0_reads.data.toList.drop 46 = dktX0_reads_2 := dk_seg dksX0_reads_1 23 rfl rfl
theorem dksX0_reads_3 : cX0_reads.data.toList.drop 69 = dktX0_reads_3 := dk_seg dksX0_reads_2 23 rfl rfl
theorem dksX0_reads_4 : cX0_reads.data.toList.drop 93 = dktX0_reads_4 := dk_seg dksX0_reads_3 24 rfl rfl
theorem dksX0_reads_5 : cX0_reads.data.toList.drop 116 = dktX0_reads_5 := dk_seg dksX0_reads_4 23 rfl rfl
theorem dX0_reads_0 : decode cX0_reads 0 = .ok (.iconst 0, 1) := dk_3 (dk_at dksX0_reads_0 0 rfl rfl)
theorem dX0_reads_1 : decode cX0_reads 1 = .ok (.istore 4, 2) := dk_54 4 (dk_at dksX0_reads_0 1 rfl rfl)
theorem dX0_reads_3 : decode cX0_reads 3 = .ok (.iconst 0, 1) := dk_3 (dk_at dksX0_reads_0 3 rfl rfl)
theorem dX0_reads_4 : decode cX0_reads 4 = .ok (.istore 5, 2) := dk_54 5 (dk_at dksX0_reads_0 4 rfl rfl)
theorem dX0_reads_6 : decode cX0_reads 6 = .ok (.iload 5, 2) := dk_21 5 (dk_at dksX0_reads_0 6 rfl rfl)
theorem dX0_reads_8 : decode cX0_reads 8 = .ok (.aload_n 1, 1) := dk_43 (dk_at dksX0_reads_0 8 rfl rfl)
theorem dX0_reads_9 : decode cX0_reads 9 = .ok (.arraylength, 1) := dk_190 (dk_at dksX0_reads_0 9 rfl rfl)
theorem dX0_reads_10 : decode cX0_reads 10 = .ok (.if_icmp .ge 115, 3) := dk_162 0 115 (dk_at dksX0_reads_0 10 rfl rfl)
theorem dX0_reads_13 : decode cX0_reads 13 = .ok (.aload_n 1, 1) := dk_43 (dk_at dksX0_reads_0 13 rfl rfl)
theorem dX0_reads_14 : decode cX0_reads 14 = .ok (.iload 5, 2) := dk_21 5 (dk_at dksX0_reads_0 14 rfl rfl)
theorem dX0_reads_16 : decode cX0_reads 16 = .ok (.iconst 3, 1) := dk_6 (dk_at dksX0_reads_0 16 rfl rfl)
theorem dX0_reads_17 : decode cX0_reads 17 = .ok (.iadd, 1) := dk_96 (dk_at dksX0_reads_0 17 rfl rfl)
theorem dX0_reads_18 : decode cX0_reads 18 = .ok (.baload, 1) := dk_51 (dk_at dksX0_reads_0 18 rfl rfl)
theorem dX0_reads_19 : decode cX0_reads 19 = .ok (.bipush 24, 2) := dk_16 24 (dk_at dksX0_reads_0 19 rfl rfl)
theorem dX0_reads_21 : decode cX0_reads 21 = .ok (.ishl, 1) := dk_120 (dk_at dksX0_reads_0 21 rfl rfl)
theorem dX0_reads_22 : decode cX0_reads 22 = .ok (.aload_n 1, 1) := dk_43 (dk_at dksX0_reads_0 22 rfl rfl)
theorem dX0_reads_23 : decode cX0_reads 23 = .ok (.iload 5, 2) := dk_21 5 (dk_at dksX0_reads_1 0 rfl rfl)
theorem dX0_reads_25 : decode cX0_reads 25 = .ok (.iconst 4, 1) := dk_7 (dk_at dksX0_reads_1 2 rfl rfl)
theorem dX0_reads_26 : decode cX0_reads 26 = .ok (.iadd, 1) := dk_96 (dk_at dksX0_reads_1 3 rfl rfl)
theorem dX0_reads_27 : decode cX0_reads 27 = .ok (.baload, 1) := dk_51 (dk_at dksX0_reads_1 4 rfl rfl)
theorem dX0_reads_28 : decode cX0_reads 28 = .ok (.sipush 255, 3) := dk_17 0 255 (dk_at dksX0_reads_1 5 rfl rfl)
theorem dX0_reads_31 : decode cX0_reads 31 = .ok (.iand, 1) := dk_126 (dk_at dksX0_reads_1 8 rfl rfl)
theorem dX0_reads_32 : decode cX0_reads 32 = .ok (.bipush 16, 2) := dk_16 16 (dk_at dksX0_reads_1 9 rfl rfl)
theorem dX0_reads_34 : decode cX0_reads 34 = .ok (.ishl, 1) := dk_120 (dk_at dksX0_reads_1 11 rfl rfl)
theorem dX0_reads_35 : decode cX0_reads 35 = .ok (.ior, 1) := dk_128 (dk_at dksX0_reads_1 12 rfl rfl)
theorem dX0_reads_36 : decode cX0_reads 36 = .ok (.aload_n 1, 1) := dk_43 (dk_at dksX0_reads_1 13 rfl rfl)
theorem dX0_reads_37 : decode cX0_reads 37 = .ok (.iload 5, 2) := dk_21 5 (dk_at dksX0_reads_1 14 rfl rfl)
theorem dX0_reads_39 : decode cX0_reads 39 = .ok (.iconst 5, 1) := dk_8 (dk_at dksX0_reads_1 16 rfl rfl)
theorem dX0_reads_40 : decode cX0_reads 40 = .ok (.iadd, 1) := dk_96 (dk_at dksX0_reads_1 17 rfl rfl)
theorem dX0_reads_41 : decode cX0_reads 41 = .ok (.baload, 1) := dk_51 (dk_at dksX0_reads_1 18 rfl rfl)
theorem dX0_reads_42 : decode cX0_reads 42 = .ok (.sipush 255, 3) := dk_17 0 255 (dk_at dksX0_reads_1 19 rfl rfl)
theorem dX0_reads_45 : decode cX0_reads 45 = .ok (.iand, 1) := dk_126 (dk_at dksX0_reads_1 22 rfl rfl)
theorem dX0_reads_46 : decode cX0_reads 46 = .ok (.bipush 8, 2) := dk_16 8 (dk_at dksX0_reads_2 0 rfl rfl)
theorem dX0_reads_48 : decode cX0_reads 48 = .ok (.ishl, 1) := dk_120 (dk_at dksX0_reads_2 2 rfl rfl)
theorem dX0_reads_49 : decode cX0_reads 49 = .ok (.ior, 1) := dk_128 (dk_at dksX0_reads_2 3 rfl rfl)
theorem dX0_reads_50 : decode cX0_reads 50 = .ok (.aload_n 1, 1) := dk_43 (dk_at dksX0_reads_2 4 rfl rfl)
theorem dX0_reads_51 : decode cX0_reads 51 = .ok (.iload 5, 2) := dk_21 5 (dk_at dksX0_reads_2 5 rfl rfl)
theorem dX0_reads_53 : decode cX0_reads 53 = .ok (.bipush 6, 2) := dk_16 6 (dk_at dksX0_reads_2 7 rfl rfl)
theorem dX0_reads_55 : decode cX0_reads 55 = .ok (.iadd, 1) := dk_96 (dk_at dksX0_reads_2 9 rfl rfl)
theorem dX0_reads_56 : decode cX0_reads 56 = .ok (.baload, 1) := dk_51 (dk_at dksX0_reads_2 10 rfl rfl)
theorem dX0_reads_57 : decode cX0_reads 57 = .ok (.sipush 255, 3) := dk_17 0 255 (dk_at dksX0_reads_2 11 rfl rfl)
theorem dX0_reads_60 : decode cX0_reads 60 = .ok (.iand, 1) := dk_126 (dk_at dksX0_reads_2 14 rfl rfl)
theorem dX0_reads_61 : decode cX0_reads 61 = .ok (.ior, 1) := dk_128 (dk_at dksX0_reads_2 15 rfl rfl)
theorem dX0_reads_62 : decode cX0_reads 62 = .ok (.istore 6, 2) := dk_54 6 (dk_at dksX0_reads_2 16 rfl rfl)
theorem dX0_reads_64 : decode cX0_reads 64 = .ok (.aload_n 1, 1) := dk_43 (dk_at dksX0_reads_2 18 rfl rfl)
theorem dX0_reads_65 : decode cX0_reads 65 = .ok (.iload 5, 2) := dk_21 5 (dk_at dksX0_reads_2 19 rfl rfl)
theorem dX0_reads_67 : decode cX0_reads 67 = .ok (.baload, 1) := dk_51 (dk_at dksX0_reads_2 21 rfl rfl)
theorem dX0_reads_68 : decode cX0_reads 68 = .ok (.aload_n 1, 1) := dk_43 (dk_at dksX0_reads_2 22 rfl rfl)
theorem dX0_reads_69 : decode cX0_reads 69 = .ok (.iload 5, 2) := dk_21 5 (dk_at dksX0_reads_3 0 rfl rfl)
theorem dX0_reads_71 : decode cX0_reads 71 = .ok (.iconst 1, 1) := dk_4 (dk_at dksX0_reads_3 2 rfl rfl)
theorem dX0_reads_72 : decode cX0_reads 72 = .ok (.iadd, 1) := dk_96 (dk_at dksX0_reads_3 3 rfl rfl)
theorem dX0_reads_73 : decode cX0_reads 73 = .ok (.baload, 1) := dk_51 (dk_at dksX0_reads_3 4 rfl rfl)
theorem dX0_reads_74 : decode cX0_reads 74 = .ok (.aload_n 1, 1) := dk_43 (dk_at dksX0_reads_3 5 rfl rfl)
theorem dX0_reads_75 : decode cX0_reads 75 = .ok (.iload 5, 2) := dk_21 5 (dk_at dksX0_reads_3 6 rfl rfl)
theorem dX0_reads_77 : decode cX0_reads 77 = .ok (.iconst 2, 1) := dk_5 (dk_at dksX0_reads_3 8 rfl rfl)
theorem dX0_reads_78 : decode cX0_reads 78 = .ok (.iadd, 1) := dk_96 (dk_at dksX0_reads_3 9 rfl rfl)
theorem dX0_reads_79 : decode cX0_reads 79 = .ok (.baload, 1) := dk_51 (dk_at dksX0_reads_3 10 rfl rfl)
theorem dX0_reads_80 : decode cX0_reads 80 = .ok (.iload 6, 2) := dk_21 6 (dk_at dksX0_reads_3 11 rfl rfl)
theorem dX0_reads_82 : decode cX0_reads 82 = .ok (.invokestatic 197, 3) := dk_184 0 197 (dk_at dksX0_reads_3 13 rfl rfl)
theorem dX0_reads_85 : decode cX0_reads 85 = .ok (.ifCond .ne 6, 3) := dk_154 0 6 (dk_at dksX0_reads_3 16 rfl rfl)
theorem dX0_reads_88 : decode cX0_reads 88 = .ok (.goto 31, 3) := dk_167 0 31 (dk_at dksX0_reads_3 19 rfl rfl)
theorem dX0_reads_91 : decode cX0_reads 91 = .ok (.aload_n 0, 1) := dk_42 (dk_at dksX0_reads_3 22 rfl rfl)
theorem dX0_reads_92 : decode cX0_reads 92 = .ok (.iload_n 2, 1) := dk_28 (dk_at dksX0_reads_3 23 rfl rfl)
theorem dX0_reads_93 : decode cX0_reads 93 = .ok (.aload_n 1, 1) := dk_43 (dk_at dksX0_reads_4 0 rfl rfl)
theorem dX0_reads_94 : decode cX0_reads 94 = .ok (.iload 5, 2) := dk_21 5 (dk_at dksX0_reads_4 1 rfl rfl)
theorem dX0_reads_96 : decode cX0_reads 96 = .ok (.baload, 1) := dk_51 (dk_at dksX0_reads_4 3 rfl rfl)
theorem dX0_reads_97 : decode cX0_reads 97 = .ok (.aload_n 1, 1) := dk_43 (dk_at dksX0_reads_4 4 rfl rfl)
theorem dX0_reads_98 : decode cX0_reads 98 = .ok (.iload 5, 2) := dk_21 5 (dk_at dksX0_reads_4 5 rfl rfl)
theorem dX0_reads_100 : decode cX0_reads 100 = .ok (.iconst 1, 1) := dk_4 (dk_at dksX0_reads_4 7 rfl rfl)
theorem dX0_reads_101 : decode cX0_reads 101 = .ok (.iadd, 1) := dk_96 (dk_at dksX0_reads_4 8 rfl rfl)
theorem dX0_reads_102 : decode cX0_reads 102 = .ok (.baload, 1) := dk_51 (dk_at dksX0_reads_4 9 rfl rfl)
theorem dX0_reads_103 : decode cX0_reads 103 = .ok (.aload_n 1, 1) := dk_43 (dk_at dksX0_reads_4 10 rfl rfl)
theorem dX0_reads_104 : decode cX0_reads 104 = .ok (.iload 5, 2) := dk_21 5 (dk_at dksX0_reads_4 11 rfl rfl)
theorem dX0_reads_106 : decode cX0_reads 106 = .ok (.iconst 2, 1) := dk_5 (dk_at dksX0_reads_4 13 rfl rfl)
theorem dX0_reads_107 : decode cX0_reads 107 = .ok (.iadd, 1) := dk_96 (dk_at dksX0_reads_4 14 rfl rfl)
theorem dX0_reads_108 : decode cX0_reads 108 = .ok (.baload, 1) := dk_51 (dk_at dksX0_reads_4 15 rfl rfl)
theorem dX0_reads_109 : decode cX0_reads 109 = .ok (.iload 6, 2) := dk_21 6 (dk_at dksX0_reads_4 16 rfl rfl)
theorem dX0_reads_111 : decode cX0_reads 111 = .ok (.iload_n 3, 1) := dk_29 (dk_at dksX0_reads_4 18 rfl rfl)
theorem dX0_reads_112 : decode cX0_reads 112 = .ok (.invokevirtual 207, 3) := dk_182 0 207 (dk_at dksX0_reads_4 19 rfl rfl)
theorem dX0_reads_115 : decode cX0_reads 115 = .ok (.pop, 1) := dk_87 (dk_at dksX0_reads_4 22 rfl rfl)
theorem dX0_reads_116 : decode cX0_reads 116 = .ok (.iinc 4 1, 3) := dk_132 4 1 (dk_at dksX0_reads_5 0 rfl rfl)
theorem dX0_reads_119 : decode cX0_reads 119 = .ok (.iinc 5 7, 3) := dk_132 5 7 (dk_at dksX0_reads_5 3 rfl rfl)
theorem dX0_reads_122 : decode cX0_reads 122 = .ok (.goto (-116), 3) := dk_167 255 140 (dk_at dksX0_reads_5 6 rfl rfl)
theorem dX0_reads_125 : decode cX0_reads 125 = .ok (.goto 8, 3) := dk_167 0 8 (dk_at dksX0_reads_5 9 rfl rfl)
theorem dX0_reads_128 : decode cX0_reads 128 = .ok (.astore 5, 2) := dk_58 5 (dk_at dksX0_reads_5 12 rfl rfl)
theorem dX0_reads_130 : decode cX0_reads 130 = .ok (.iload 4, 2) := dk_21 4 (dk_at dksX0_reads_5 14 rfl rfl)
theorem dX0_reads_132 : decode cX0_reads 132 = .ok (.ireturn, 1) := dk_172 (dk_at dksX0_reads_5 16 rfl rfl)
theorem dX0_reads_133 : decode cX0_reads 133 = .ok (.iload 4, 2) := dk_21 4 (dk_at dksX0_reads_5 17 rfl rfl)
theorem dX0_reads_135 : decode cX0_reads 135 = .ok (.ireturn, 1) := dk_172 (dk_at dksX0_reads_5 19 rfl rfl)
def dkwX0_off_3 : List UInt8 := [180, 0, 229, 27, 29, 79, 42, 3, 182, 0, 138, 172]
abbrev dktX0_off_3 : List UInt8 := dkwX0_off_3 ++ []
def dkwX0_off_2 : List UInt8 := [159, 0, 10, 42, 16, 252, 182, 0, 131, 172, 42, 180, 0, 10, 180, 0, 191, 27, 28, 79, 42, 180, 0, 10]
abbrev dktX0_off_2 : List UInt8 := dkwX0_off_2 ++ dktX0_off_3
def dkwX0_off_1 : List UInt8 := [182, 0, 226, 154, 0, 10, 42, 16, 254, 182, 0, 131, 172, 42, 180, 0, 10, 180, 0, 191, 27, 46, 2]
abbrev dktX0_off_1 : List UInt8 := dkwX0_off_1 ++ dktX0_off_2
def dkwX0_off_0 : List UInt8 := [28, 184, 0, 201, 153, 0, 10, 29, 184, 0, 201, 154, 0, 9, 42, 2, 182, 0, 131, 172, 42, 27]
abbrev dktX0_off_0 : List UInt8 := dkwX0_off_0 ++ dktX0_off_1
theorem dksX0_off_0 : cX0_off.data.toList.drop 0 = dktX0_off_0 := by decide +kernel
theorem dksX0_off_1 : cX0_off.data.toList.drop 22 = dktX0_off_1 := dk_seg dksX0_off_0 22 rfl rfl
theorem dksX0_off_2 : cX0_off.data.toList.drop 45 = dktX0_off_2 := dk_seg dksX0_off_1 23 rfl rfl
theorem dksX0_off_3 : cX0_off.data.toList.drop 69 = dktX0_off_3 := dk_seg dksX0_off_2 24 rfl rfl
theorem dX0_off_0 : decode cX0_off 0 = .ok (.iload_n 2, 1) := dk_28 (dk_at dksX0_off_0 0 rfl rfl)
theorem dX0_off_1 : decode cX0_off 1 = .ok (.invokestatic 201, 3) := dk_184 0 201 (dk_at dksX0_off_0 1 rfl rfl)
theorem dX0_off_4 : decode cX0_off 4 = .ok (.ifCond .eq 10, 3) := dk_153 0 10 (dk_at dksX0_off_0 4 rfl rfl)
theorem dX0_off_7 : decode cX0_off 7 = .ok (.iload_n 3, 1) := dk_29 (dk_at dksX0_off_0 7 rfl rfl)
theorem dX0_off_8 : decode cX0_off 8 = .ok (.invokestatic 201, 3) := dk_184 0 201 (dk_at dksX0_off_0 8 rfl rfl)
theorem dX0_off_11 : decode cX0_off 11 = .ok (.ifCond .ne 9, 3) := dk_154 0 9 (dk_at dksX0_off_0 11 rfl rfl)
theorem dX0_off_14 : decode cX0_off 14 = .ok (.aload_n 0, 1) := dk_42 (dk_at dksX0_off_0 14 rfl rfl)
theorem dX0_off_15 : decode cX0_off 15 = .ok (.iconst (-1), 1) := dk_2 (dk_at dksX0_off_0 15 rfl rfl)
theorem dX0_off_16 : decode cX0_off 16 = .ok (.invokevirtual 131, 3) := dk_182 0 131 (dk_at dksX0_off_0 16 rfl rfl)
theorem dX0_off_19 : decode cX0_off 19 = .ok (.ireturn, 1) := dk_172 (dk_at dksX0_off_0 19 rfl rfl)
theorem dX0_off_20 : decode cX0_off 20 = .ok (.aload_n 0, 1) := dk_42 (dk_at dksX0_off_0 20 rfl rfl)
theorem dX0_off_21 : decode cX0_off 21 = .ok (.iload_n 1, 1) := dk_27 (dk_at dksX0_off_0 21 rfl rfl)
theorem dX0_off_22 : decode cX0_off 22 = .ok (.invokevirtual 226, 3) := dk_182 0 226 (dk_at dksX0_off_1 0 rfl rfl)
theorem dX0_off_25 : decode cX0_off 25 = .ok (.ifCond .ne 10, 3) := dk_154 0 10 (dk_at dksX0_off_1 3 rfl rfl)
theorem dX0_off_28 : decode cX0_off 28 = .ok (.aload_n 0, 1) := dk_42 (dk_at dksX0_off_1 6 rfl rfl)
theorem dX0_off_29 : decode cX0_off 29 = .ok (.bipush (-2), 2) := dk_16 254 (dk_at dksX0_off_1 7 rfl rfl)
theorem dX0_off_31 : decode cX0_off 31 = .ok (.invokevirtual 131, 3) := dk_182 0 131 (dk_at dksX0_off_1 9 rfl rfl)
theorem dX0_off_34 : decode cX0_off 34 = .ok (.ireturn, 1) := dk_172 (dk_at dksX0_off_1 12 rfl rfl)
theorem dX0_off_35 : decode cX0_off 35 = .ok (.aload_n 0, 1) := dk_42 (dk_at dksX0_off_1 13 rfl rfl)
theorem dX0_off_36 : decode cX0_off 36 = .ok (.getfield 10, 3) := dk_180 0 10 (dk_at dksX0_off_1 14 rfl rfl)
theorem dX0_off_39 : decode cX0_off 39 = .ok (.getfield 191, 3) := dk_180 0 191 (dk_at dksX0_off_1 17 rfl rfl)
theorem dX0_off_42 : decode cX0_off 42 = .ok (.iload_n 1, 1) := dk_27 (dk_at dksX0_off_1 20 rfl rfl)
theorem dX0_off_43 : decode cX0_off 43 = .ok (.iaload, 1) := dk_46 (dk_at dksX0_off_1 21 rfl rfl)
theorem dX0_off_44 : decode cX0_off 44 = .ok (.iconst (-1), 1) := dk_2 (dk_at dksX0_off_1 22 rfl rfl)
theorem dX0_off_45 : decode cX0_off 45 = .ok (.if_icmp .eq 10, 3) := dk_159 0 10 (dk_at dksX0_off_2 0 rfl rfl)
theorem dX0_off_48 : decode cX0_off 48 = .ok (.aload_n 0, 1) := dk_42 (dk_at dksX0_off_2 3 rfl rfl)
theorem dX0_off_49 : decode cX0_off 49 = .ok (.bipush (-4), 2) := dk_16 252 (dk_at dksX0_off_2 4 rfl rfl)
theorem dX0_off_51 : decode cX0_off 51 = .ok (.invokevirtual 131, 3) := dk_182 0 131 (dk_at dksX0_off_2 6 rfl rfl)
theorem dX0_off_54 : decode cX0_off 54 = .ok (.ireturn, 1) := dk_172 (dk_at dksX0_off_2 9 rfl rfl)
theorem dX0_off_55 : decode cX0_off 55 = .ok (.aload_n 0, 1) := dk_42 (dk_at dksX0_off_2 10 rfl rfl)
theorem dX0_off_56 : decode cX0_off 56 = .ok (.getfield 10, 3) := dk_180 0 10 (dk_at dksX0_off_2 11 rfl rfl)
theorem dX0_off_59 : decode cX0_off 59 = .ok (.getfield 191, 3) := dk_180 0 191 (dk_at dksX0_off_2 14 rfl rfl)
theorem dX0_off_62 : decode cX0_off 62 = .ok (.iload_n 1, 1) := dk_27 (dk_at dksX0_off_2 17 rfl rfl)
theorem dX0_off_63 : decode cX0_off 63 = .ok (.iload_n 2, 1) := dk_28 (dk_at dksX0_off_2 18 rfl rfl)
theorem dX0_off_64 : decode cX0_off 64 = .ok (.iastore, 1) := dk_79 (dk_at dksX0_off_2 19 rfl rfl)
theorem dX0_off_65 : decode cX0_off 65 = .ok (.aload_n 0, 1) := dk_42 (dk_at dksX0_off_2 20 rfl rfl)
theorem dX0_off_66 : decode cX0_off 66 = .ok (.getfield 10, 3) := dk_180 0 10 (dk_at dksX0_off_2 21 rfl rfl)
theorem dX0_off_69 : decode cX0_off 69 = .ok (.getfield 229, 3) := dk_180 0 229 (dk_at dksX0_off_3 0 rfl rfl)
theorem dX0_off_72 : decode cX0_off 72 = .ok (.iload_n 1, 1) := dk_27 (dk_at dksX0_off_3 3 rfl rfl)
theorem dX0_off_73 : decode cX0_off 73 = .ok (.iload_n 3, 1) := dk_29 (dk_at dksX0_off_3 4 rfl rfl)
theorem dX0_off_74 : decode cX0_off 74 = .ok (.iastore, 1) := dk_79 (dk_at dksX0_off_3 5 rfl rfl)
theorem dX0_off_75 : decode cX0_off 75 = .ok (.aload_n 0, 1) := dk_42 (dk_at dksX0_off_3 6 rfl rfl)
theorem dX0_off_76 : decode cX0_off 76 = .ok (.iconst 0, 1) := dk_3 (dk_at dksX0_off_3 7 rfl rfl)
theorem dX0_off_77 : decode cX0_off 77 = .ok (.invokevirtual 138, 3) := dk_182 0 138 (dk_at dksX0_off_3 8 rfl rfl)
theorem dX0_off_80 : decode cX0_off 80 = .ok (.ireturn, 1) := dk_172 (dk_at dksX0_off_3 11 rfl rfl)
def dkwX0_isName_0 : List UInt8 := [27, 155, 0, 21, 27, 42, 180, 0, 10, 180, 0, 144, 182, 0, 148, 162, 0, 7, 4, 167, 0, 4, 3, 172]
abbrev dktX0_isName_0 : List UInt8 := dkwX0_isName_0 ++ []
theorem dksX0_isName_0 : cX0_isName.data.toList.drop 0 = dktX0_isName_0 := by decide +kernel
theorem dX0_isName_0 : decode cX0_isName 0 = .ok (.iload_n 1, 1) := dk_27 (dk_at dksX0_isName_0 0 rfl rfl)
theorem dX0_isName_1 : decode cX0_isName 1 = .ok (.ifCond .lt 21, 3) := dk_155 0 21 (dk_at dksX0_isName_0 1 rfl rfl)
theorem dX0_isName_4 : decode cX0_isName 4 = .ok (.iload_n 1, 1) := dk_27 (dk_at dksX0_isName_0 4 rfl rfl)
theorem dX0_isName_5 : decode cX0_isName 5 = .ok (.aload_n 0, 1) := dk_42 (dk_at dksX0_isName_0 5 rfl rfl)
theorem dX0_isName_6 : decode cX0_isName 6 = .ok (.getfield 10, 3) := dk_180 0 10 (dk_at dksX0_isName_0 6 rfl rfl)
theorem dX0_isName_9 : decode cX0_isName 9 = .ok (.getfield 144, 3) := dk_180 0 144 (dk_at dksX0_isName_0 9 rfl rfl)
theorem dX0_isName_12 : decode cX0_isName 12 = .ok (.invokevirtual 148, 3) := dk_182 0 148 (dk_at dksX0_isName_0 12 rfl rfl)
theorem dX0_isName_15 : decode cX0_isName 15 = .ok (.if_icmp .ge 7, 3) := dk_162 0 7 (dk_at dksX0_isName_0 15 rfl rfl)
theorem dX0_isName_18 : decode cX0_isName 18 = .ok (.iconst 1, 1) := dk_4 (dk_at dksX0_isName_0 18 rfl rfl)
theorem dX0_isName_19 : decode cX0_isName 19 = .ok (.goto 4, 3) := dk_167 0 4 (dk_at dksX0_isName_0 19 rfl rfl)
theorem dX0_isName_22 : decode cX0_isName 22 = .ok (.iconst 0, 1) := dk_3 (dk_at dksX0_isName_0 22 rfl rfl)
theorem dX0_isName_23 : decode cX0_isName 23 = .ok (.ireturn, 1) := dk_172 (dk_at dksX0_isName_0 23 rfl rfl)
def dkwX0_moved_5 : List UInt8 := [180, 0, 242, 27, 21, 4, 79, 42, 3, 182, 0, 138, 172]
abbrev dktX0_moved_5 : List UInt8 := dkwX0_moved_5 ++ []
def dkwX0_moved_4 : List UInt8 := [42, 180, 0, 10, 180, 0, 194, 27, 28, 79, 42, 180, 0, 10, 180, 0, 239, 27, 29, 79, 42, 180, 0, 10]
abbrev dktX0_moved_4 : List UInt8 := dkwX0_moved_4 ++ dktX0_moved_5
def dkwX0_moved_3 : List UInt8 := [182, 0, 131, 172, 42, 180, 0, 10, 180, 0, 194, 27, 46, 2, 159, 0, 10, 42, 16, 252, 182, 0, 131, 172]
abbrev dktX0_moved_3 : List UInt8 := dkwX0_moved_3 ++ dktX0_moved_4
def dkwX0_moved_2 : List UInt8 := [180, 0, 10, 180, 0, 144, 27, 182, 0, 232, 192, 0, 173, 180, 0, 236, 28, 160, 0, 10, 42, 16, 253]
abbrev dktX0_moved_2 : List UInt8 := dkwX0_moved_2 ++ dktX0_moved_3
def dkwX0_moved_1 : List UInt8 := [182, 0, 226, 153, 0, 11, 42, 28, 182, 0, 204, 154, 0, 10, 42, 16, 254, 182, 0, 131, 172, 42]
abbrev dktX0_moved_1 : List UInt8 := dkwX0_moved_1 ++ dktX0_moved_2
def dkwX0_moved_0 : List UInt8 := [29, 184, 0, 201, 153, 0, 11, 21, 4, 184, 0, 201, 154, 0, 9, 42, 2, 182, 0, 131, 172, 42, 27]
abbrev dktX0_moved_0 : List UInt8 := dkwX0_moved_0 ++ dktX0_moved_1
theorem dksX0_moved_0 : cX0_moved.data.toList.drop 0 = dktX0_moved_0 := by decide +kernel
theorem dksX0_moved_1 : cX0_moved.data.toList.drop 23 = dktX0_moved_1 := dk_seg dksX0_moved_0 23 rfl rfl
theorem dksX0_moved_2 : cX0_moved.data.toList.drop 45 = dktX0_moved_2 := dk_seg dksX0_moved_1 22 rfl rfl
theorem dksX0_moved_3 : cX0_moved.data.toList.drop 68 = dktX0_moved_3 := dk_seg dksX0_moved_2 23 rfl rfl
theorem dksX0_moved_4 : cX0_moved.data.toList.drop 92 = dktX0_moved_4 := dk_seg dksX0_moved_3 24 rfl rfl
theorem dksX0_moved_5 : cX0_moved.data.toList.drop 116 = dktX0_moved_5 := dk_seg dksX0_moved_4 24 rfl rfl
theorem dX0_moved_0 : decode cX0_moved 0 = .ok (.iload_n 3, 1) := dk_29 (dk_at dksX0_moved_0 0 rfl rfl)
theorem dX0_moved_1 : decode cX0_moved 1 = .ok (.invokestatic 201, 3) := dk_184 0 201 (dk_at dksX0_moved_0 1 rfl rfl)
theorem dX0_moved_4 : decode cX0_moved 4 = .ok (.ifCond .eq 11, 3) := dk_153 0 11 (dk_at dksX0_moved_0 4 rfl rfl)
theorem dX0_moved_7 : decode cX0_moved 7 = .ok (.iload 4, 2) := dk_21 4 (dk_at dksX0_moved_0 7 rfl rfl)
theorem dX0_moved_9 : decode cX0_moved 9 = .ok (.invokestatic 201, 3) := dk_184 0 201 (dk_at dksX0_moved_0 9 rfl rfl)
theorem dX0_moved_12 : decode cX0_moved 12 = .ok (.ifCond .ne 9, 3) := dk_154 0 9 (dk_at dksX0_moved_0 12 rfl rfl)
theorem dX0_moved_15 : decode cX0_moved 15 = .ok (.aload_n 0, 1) := dk_42 (dk_at dksX0_moved_0 15 rfl rfl)
theorem dX0_moved_16 : decode cX0_moved 16 = .ok (.iconst (-1), 1) := dk_2 (dk_at dksX0_moved_0 16 rfl rfl)
theorem dX0_moved_17 : decode cX0_moved 17 = .ok (.invokevirtual 131, 3) := dk_182 0 131 (dk_at dksX0_moved_0 17 rfl rfl)
theorem dX0_moved_20 : decode cX0_moved 20 = .ok (.ireturn, 1) := dk_172 (dk_at dksX0_moved_0 20 rfl rfl)
theorem dX0_moved_21 : decode cX0_moved 21 = .ok (.aload_n 0, 1) := dk_42 (dk_at dksX0_moved_0 21 rfl rfl)
theorem dX0_moved_22 : decode cX0_moved 22 = .ok (.iload_n 1, 1) := dk_27 (dk_at dksX0_moved_0 22 rfl rfl)
theorem dX0_moved_23 : decode cX0_moved 23 = .ok (.invokevirtual 226, 3) := dk_182 0 226 (dk_at dksX0_moved_1 0 rfl rfl)
theorem dX0_moved_26 : decode cX0_moved 26 = .ok (.ifCond .eq 11, 3) := dk_153 0 11 (dk_at dksX0_moved_1 3 rfl rfl)
theorem dX0_moved_29 : decode cX0_moved 29 = .ok (.aload_n 0, 1) := dk_42 (dk_at dksX0_moved_1 6 rfl rfl)
theorem dX0_moved_30 : decode cX0_moved 30 = .ok (.iload_n 2, 1) := dk_28 (dk_at dksX0_moved_1 7 rfl rfl)
theorem dX0_moved_31 : decode cX0_moved 31 = .ok (.invokevirtual 204, 3) := dk_182 0 204 (dk_at dksX0_moved_1 8 rfl rfl)
theorem dX0_moved_34 : decode cX0_moved 34 = .ok (.ifCond .ne 10, 3) := dk_154 0 10 (dk_at dksX0_moved_1 11 rfl rfl)
theorem dX0_moved_37 : decode cX0_moved 37 = .ok (.aload_n 0, 1) := dk_42 (dk_at dksX0_moved_1 14 rfl rfl)
theorem dX0_moved_38 : decode cX0_moved 38 = .ok (.bipush (-2), 2) := dk_16 254 (dk_at dksX0_moved_1 15 rfl rfl)
theorem dX0_moved_40 : decode cX0_moved 40 = .ok (.invokevirtual 131, 3) := dk_182 0 131 (dk_at dksX0_moved_1 17 rfl rfl)
theorem dX0_moved_43 : decode cX0_moved 43 = .ok (.ireturn, 1) := dk_172 (dk_at dksX0_moved_1 20 rfl rfl)
theorem dX0_moved_44 : decode cX0_moved 44 = .ok (.aload_n 0, 1) := dk_42 (dk_at dksX0_moved_1 21 rfl rfl)
theorem dX0_moved_45 : decode cX0_moved 45 = .ok (.getfield 10, 3) := dk_180 0 10 (dk_at dksX0_moved_2 0 rfl rfl)
theorem dX0_moved_48 : decode cX0_moved 48 = .ok (.getfield 144, 3) := dk_180 0 144 (dk_at dksX0_moved_2 3 rfl rfl)
theorem dX0_moved_51 : decode cX0_moved 51 = .ok (.iload_n 1, 1) := dk_27 (dk_at dksX0_moved_2 6 rfl rfl)
theorem dX0_moved_52 : decode cX0_moved 52 = .ok (.invokevirtual 232, 3) := dk_182 0 232 (dk_at dksX0_moved_2 7 rfl rfl)
theorem dX0_moved_55 : decode cX0_moved 55 = .ok (.checkcast 173, 3) := dk_192 0 173 (dk_at dksX0_moved_2 10 rfl rfl)
theorem dX0_moved_58 : decode cX0_moved 58 = .ok (.getfield 236, 3) := dk_180 0 236 (dk_at dksX0_moved_2 13 rfl rfl)
theorem dX0_moved_61 : decode cX0_moved 61 = .ok (.iload_n 2, 1) := dk_28 (dk_at dksX0_moved_2 16 rfl rfl)
theorem dX0_moved_62 : decode cX0_moved 62 = .ok (.if_icmp .ne 10, 3) := dk_160 0 10 (dk_at dksX0_moved_2 17 rfl rfl)
theorem dX0_moved_65 : decode cX0_moved 65 = .ok (.aload_n 0, 1) := dk_42 (dk_at dksX0_moved_2 20 rfl rfl)
theorem dX0_moved_66 : decode cX0_moved 66 = .ok (.bipush (-3), 2) := dk_16 253 (dk_at dksX0_moved_2 21 rfl rfl)
theorem dX0_moved_68 : decode cX0_moved 68 = .ok (.invokevirtual 131, 3) := dk_182 0 131 (dk_at dksX0_moved_3 0 rfl rfl)
theorem dX0_moved_71 : decode cX0_moved 71 = .ok (.ireturn, 1) := dk_172 (dk_at dksX0_moved_3 3 rfl rfl)
theorem dX0_moved_72 : decode cX0_moved 72 = .ok (.aload_n 0, 1) := dk_42 (dk_at dksX0_moved_3 4 rfl rfl)
theorem dX0_moved_73 : decode cX0_moved 73 = .ok (.getfield 10, 3) := dk_180 0 10 (dk_at dksX0_moved_3 5 rfl rfl)
theorem dX0_moved_76 : decode cX0_moved 76 = .ok (.getfield 194, 3) := dk_180 0 194 (dk_at dksX0_moved_3 8 rfl rfl)
theorem dX0_moved_79 : decode cX0_moved 79 = .ok (.iload_n 1, 1) := dk_27 (dk_at dksX0_moved_3 11 rfl rfl)
theorem dX0_moved_80 : decode cX0_moved 80 = .ok (.iaload, 1) := dk_46 (dk_at dksX0_moved_3 12 rfl rfl)
theorem dX0_moved_81 : decode cX0_moved 81 = .ok (.iconst (-1), 1) := dk_2 (dk_at dksX0_moved_3 13 rfl rfl)
theorem dX0_moved_82 : decode cX0_moved 82 = .ok (.if_icmp .eq 10, 3) := dk_159 0 10 (dk_at dksX0_moved_3 14 rfl rfl)
theorem dX0_moved_85 : decode cX0_moved 85 = .ok (.aload_n 0, 1) := dk_42 (dk_at dksX0_moved_3 17 rfl rfl)
theorem dX0_moved_86 : decode cX0_moved 86 = .ok (.bipush (-4), 2) := dk_16 252 (dk_at dksX0_moved_3 18 rfl rfl)
theorem dX0_moved_88 : decode cX0_moved 88 = .ok (.invokevirtual 131, 3) := dk_182 0 131 (dk_at dksX0_moved_3 20 rfl rfl)
theorem dX0_moved_91 : decode cX0_moved 91 = .ok (.ireturn, 1) := dk_172 (dk_at dksX0_moved_3 23 rfl rfl)
theorem dX0_moved_92 : decode cX0_moved 92 = .ok (.aload_n 0, 1) := dk_42 (dk_at dksX0_moved_4 0 rfl rfl)
theorem dX0_moved_93 : decode cX0_moved 93 = .ok (.getfield 10, 3) := dk_180 0 10 (dk_at dksX0_moved_4 1 rfl rfl)
theorem dX0_moved_96 : decode cX0_moved 96 = .ok (.getfield 194, 3) := dk_180 0 194 (dk_at dksX0_moved_4 4 rfl rfl)
theorem dX0_moved_99 : decode cX0_moved 99 = .ok (.iload_n 1, 1) := dk_27 (dk_at dksX0_moved_4 7 rfl rfl)
theorem dX0_moved_100 : decode cX0_moved 100 = .ok (.iload_n 2, 1) := dk_28 (dk_at dksX0_moved_4 8 rfl rfl)
theorem dX0_moved_101 : decode cX0_moved 101 = .ok (.iastore, 1) := dk_79 (dk_at dksX0_moved_4 9 rfl rfl)
theorem dX0_moved_102 : decode cX0_moved 102 = .ok (.aload_n 0, 1) := dk_42 (dk_at dksX0_moved_4 10 rfl rfl)
theorem dX0_moved_103 : decode cX0_moved 103 = .ok (.getfield 10, 3) := dk_180 0 10 (dk_at dksX0_moved_4 11 rfl rfl)
theorem dX0_moved_106 : decode cX0_moved 106 = .ok (.getfield 239, 3) := dk_180 0 239 (dk_at dksX0_moved_4 14 rfl rfl)
theorem dX0_moved_109 : decode cX0_moved 109 = .ok (.iload_n 1, 1) := dk_27 (dk_at dksX0_moved_4 17 rfl rfl)
theorem dX0_moved_110 : decode cX0_moved 110 = .ok (.iload_n 3, 1) := dk_29 (dk_at dksX0_moved_4 18 rfl rfl)
theorem dX0_moved_111 : decode cX0_moved 111 = .ok (.iastore, 1) := dk_79 (dk_at dksX0_moved_4 19 rfl rfl)
theorem dX0_moved_112 : decode cX0_moved 112 = .ok (.aload_n 0, 1) := dk_42 (dk_at dksX0_moved_4 20 rfl rfl)
theorem dX0_moved_113 : decode cX0_moved 113 = .ok (.getfield 10, 3) := dk_180 0 10 (dk_at dksX0_moved_4 21 rfl rfl)
theorem dX0_moved_116 : decode cX0_moved 116 = .ok (.getfield 242, 3) := dk_180 0 242 (dk_at dksX0_moved_5 0 rfl rfl)
theorem dX0_moved_119 : decode cX0_moved 119 = .ok (.iload_n 1, 1) := dk_27 (dk_at dksX0_moved_5 3 rfl rfl)
theorem dX0_moved_120 : decode cX0_moved 120 = .ok (.iload 4, 2) := dk_21 4 (dk_at dksX0_moved_5 4 rfl rfl)
theorem dX0_moved_122 : decode cX0_moved 122 = .ok (.iastore, 1) := dk_79 (dk_at dksX0_moved_5 6 rfl rfl)
theorem dX0_moved_123 : decode cX0_moved 123 = .ok (.aload_n 0, 1) := dk_42 (dk_at dksX0_moved_5 7 rfl rfl)
theorem dX0_moved_124 : decode cX0_moved 124 = .ok (.iconst 0, 1) := dk_3 (dk_at dksX0_moved_5 8 rfl rfl)
theorem dX0_moved_125 : decode cX0_moved 125 = .ok (.invokevirtual 138, 3) := dk_182 0 138 (dk_at dksX0_moved_5 9 rfl rfl)
theorem dX0_moved_128 : decode cX0_moved 128 = .ok (.ireturn, 1) := dk_172 (dk_at dksX0_moved_5 12 rfl rfl)
def dkwX0_of_4 : List UInt8 := [172, 2, 172]
abbrev dktX0_of_4 : List UInt8 := dkwX0_of_4 ++ []
def dkwX0_of_3 : List UInt8 := [45, 180, 0, 236, 172, 45, 180, 0, 245, 172, 45, 180, 0, 248, 172, 45, 182, 0, 251, 172, 45, 180, 0, 254]
abbrev dktX0_of_3 : List UInt8 := dkwX0_of_3 ++ dktX0_of_4
def dkwX0_of_2 : List UInt8 := [170, 0, 0, 0, 0, 59, 0, 0, 0, 0, 0, 0, 0, 4, 0, 0, 0, 34, 0, 0, 0, 39, 0, 0, 0, 44, 0, 0, 0, 49, 0, 0, 0, 54]
abbrev dktX0_of_2 : List UInt8 := dkwX0_of_2 ++ dktX0_of_3
def dkwX0_of_1 : List UInt8 := [78, 28]
abbrev dktX0_of_1 : List UInt8 := dkwX0_of_1 ++ dktX0_of_2
def dkwX0_of_0 : List UInt8 := [42, 27, 182, 0, 226, 154, 0, 5, 2, 172, 42, 180, 0, 10, 180, 0, 144, 27, 182, 0, 232, 192, 0, 173]
abbrev dktX0_of_0 : List UInt8 := dkwX0_of_0 ++ dktX0_of_1
theorem dksX0_of_0 : cX0_of.data.toList.drop 0 = dktX0_of_0 := by decide +kernel
theorem dksX0_of_1 : cX0_of.data.toList.drop 24 = dktX0_of_1 := dk_seg dksX0_of_0 24 rfl rfl
theorem dksX0_of_2 : cX0_of.data.toList.drop 26 = dktX0_of_2 := dk_seg dksX0_of_1 2 rfl rfl
theorem dksX0_of_3 : cX0_of.data.toList.drop 60 = dktX0_of_3 := dk_seg dksX0_of_2 34 rfl rfl
theorem dksX0_of_4 : cX0_of.data.toList.drop 84 = dktX0_of_4 := dk_seg dksX0_of_3 24 rfl rfl
theorem dX0_of_0 : decode cX0_of 0 = .ok (.aload_n 0, 1) := dk_42 (dk_at dksX0_of_0 0 rfl rfl)
theorem dX0_of_1 : decode cX0_of 1 = .ok (.iload_n 1, 1) := dk_27 (dk_at dksX0_of_0 1 rfl rfl)
theorem dX0_of_2 : decode cX0_of 2 = .ok (.invokevirtual 226, 3) := dk_182 0 226 (dk_at dksX0_of_0 2 rfl rfl)
theorem dX0_of_5 : decode cX0_of 5 = .ok (.ifCond .ne 5, 3) := dk_154 0 5 (dk_at dksX0_of_0 5 rfl rfl)
theorem dX0_of_8 : decode cX0_of 8 = .ok (.iconst (-1), 1) := dk_2 (dk_at dksX0_of_0 8 rfl rfl)
theorem dX0_of_9 : decode cX0_of 9 = .ok (.ireturn, 1) := dk_172 (dk_at dksX0_of_0 9 rfl rfl)
theorem dX0_of_10 : decode cX0_of 10 = .ok (.aload_n 0, 1) := dk_42 (dk_at dksX0_of_0 10 rfl rfl)
theorem dX0_of_11 : decode cX0_of 11 = .ok (.getfield 10, 3) := dk_180 0 10 (dk_at dksX0_of_0 11 rfl rfl)
theorem dX0_of_14 : decode cX0_of 14 = .ok (.getfield 144, 3) := dk_180 0 144 (dk_at dksX0_of_0 14 rfl rfl)
theorem dX0_of_17 : decode cX0_of 17 = .ok (.iload_n 1, 1) := dk_27 (dk_at dksX0_of_0 17 rfl rfl)
theorem dX0_of_18 : decode cX0_of 18 = .ok (.invokevirtual 232, 3) := dk_182 0 232 (dk_at dksX0_of_0 18 rfl rfl)
theorem dX0_of_21 : decode cX0_of 21 = .ok (.checkcast 173, 3) := dk_192 0 173 (dk_at dksX0_of_0 21 rfl rfl)
theorem dX0_of_24 : decode cX0_of 24 = .ok (.astore_n 3, 1) := dk_78 (dk_at dksX0_of_1 0 rfl rfl)
theorem dX0_of_25 : decode cX0_of 25 = .ok (.iload_n 2, 1) := dk_28 (dk_at dksX0_of_1 1 rfl rfl)
theorem dX0_of_26 : decode cX0_of 26 = .ok (.tableswitch 59 0 4 #[34, 39, 44, 49, 54], 34) := by decide +kernel
theorem dX0_of_60 : decode cX0_of 60 = .ok (.aload_n 3, 1) := dk_45 (dk_at dksX0_of_3 0 rfl rfl)
theorem dX0_of_61 : decode cX0_of 61 = .ok (.getfield 236, 3) := dk_180 0 236 (dk_at dksX0_of_3 1 rfl rfl)
theorem dX0_of_64 : decode cX0_of 64 = .ok (.ireturn, 1) := dk_172 (dk_at dksX0_of_3 4 rfl rfl)
theorem dX0_of_65 : decode cX0_of 65 = .ok (.aload_n 3, 1) := dk_45 (dk_at dksX0_of_3 5 rfl rfl)
theorem dX0_of_66 : decode cX0_of 66 = .ok (.getfield 245, 3) := dk_180 0 245 (dk_at dksX0_of_3 6 rfl rfl)
theorem dX0_of_69 : decode cX0_of 69 = .ok (.ireturn, 1) := dk_172 (dk_at dksX0_of_3 9 rfl rfl)
theorem dX0_of_70 : decode cX0_of 70 = .ok (.aload_n 3, 1) := dk_45 (dk_at dksX0_of_3 10 rfl rfl)
theorem dX0_of_71 : decode cX0_of 71 = .ok (.getfield 248, 3) := dk_180 0 248 (dk_at dksX0_of_3 11 rfl rfl)
theorem dX0_of_74 : decode cX0_of 74 = .ok (.ireturn, 1) := dk_172 (dk_at dksX0_of_3 14 rfl rfl)
theorem dX0_of_75 : decode cX0_of 75 = .ok (.aload_n 3, 1) := dk_45 (dk_at dksX0_of_3 15 rfl rfl)
theorem dX0_of_76 : decode cX0_of 76 = .ok (.invokevirtual 251, 3) := dk_182 0 251 (dk_at dksX0_of_3 16 rfl rfl)
theorem dX0_of_79 : decode cX0_of 79 = .ok (.ireturn, 1) := dk_172 (dk_at dksX0_of_3 19 rfl rfl)
theorem dX0_of_80 : decode cX0_of 80 = .ok (.aload_n 3, 1) := dk_45 (dk_at dksX0_of_3 20 rfl rfl)
theorem dX0_of_81 : decode cX0_of 81 = .ok (.getfield 254, 3) := dk_180 0 254 (dk_at dksX0_of_3 21 rfl rfl)
theorem dX0_of_84 : decode cX0_of 84 = .ok (.ireturn, 1) := dk_172 (dk_at dksX0_of_4 0 rfl rfl)
theorem dX0_of_85 : decode cX0_of 85 = .ok (.iconst (-1), 1) := dk_2 (dk_at dksX0_of_4 1 rfl rfl)
theorem dX0_of_86 : decode cX0_of 86 = .ok (.ireturn, 1) := dk_172 (dk_at dksX0_of_4 2 rfl rfl)
def dkwX0_where_2 : List UInt8 := [182, 1, 7, 167, 0, 4, 2, 172]
abbrev dktX0_where_2 : List UInt8 := dkwX0_where_2 ++ []
def dkwX0_where_1 : List UInt8 := [180, 0, 10, 180, 0, 144, 27, 182, 0, 232, 192, 0, 173, 180, 1, 4, 29, 163, 0, 13, 42, 27, 28, 29]
abbrev dktX0_where_1 : List UInt8 := dkwX0_where_1 ++ dktX0_where_2
def dkwX0_where_0 : List UInt8 := [42, 27, 182, 0, 226, 153, 0, 48, 28, 184, 0, 201, 153, 0, 41, 29, 184, 0, 201, 153, 0, 34, 42]
abbrev dktX0_where_0 : List UInt8 := dkwX0_where_0 ++ dktX0_where_1
theorem dksX0_where_0 : cX0_where.data.toList.drop 0 = dktX0_where_0 := by decide +kernel
theorem dksX0_where_1 : cX0_where.data.toList.drop 23 = dktX0_where_1 := dk_seg dksX0_where_0 23 rfl rfl
theorem dksX0_where_2 : cX0_where.data.toList.drop 47 = dktX0_where_2 := dk_seg dksX0_where_1 24 rfl rfl
theorem dX0_where_0 : decode cX0_where 0 = .ok (.aload_n 0, 1) := dk_42 (dk_at dksX0_where_0 0 rfl rfl)
theorem dX0_where_1 : decode cX0_where 1 = .ok (.iload_n 1, 1) := dk_27 (dk_at dksX0_where_0 1 rfl rfl)
theorem dX0_where_2 : decode cX0_where 2 = .ok (.invokevirtual 226, 3) := dk_182 0 226 (dk_at dksX0_where_0 2 rfl rfl)
theorem dX0_where_5 : decode cX0_where 5 = .ok (.ifCond .eq 48, 3) := dk_153 0 48 (dk_at dksX0_where_0 5 rfl rfl)
theorem dX0_where_8 : decode cX0_where 8 = .ok (.iload_n 2, 1) := dk_28 (dk_at dksX0_where_0 8 rfl rfl)
theorem dX0_where_9 : decode cX0_where 9 = .ok (.invokestatic 201, 3) := dk_184 0 201 (dk_at dksX0_where_0 9 rfl rfl)
theorem dX0_where_12 : decode cX0_where 12 = .ok (.ifCond .eq 41, 3) := dk_153 0 41 (dk_at dksX0_where_0 12 rfl rfl)
theorem dX0_where_15 : decode cX0_where 15 = .ok (.iload_n 3, 1) := dk_29 (dk_at dksX0_where_0 15 rfl rfl)
theorem dX0_where_16 : decode cX0_where 16 = .ok (.invokestatic 201, 3) := dk_184 0 201 (dk_at dksX0_where_0 16 rfl rfl)
theorem dX0_where_19 : decode cX0_where 19 = .ok (.ifCond .eq 34, 3) := dk_153 0 34 (dk_at dksX0_where_0 19 rfl rfl)
theorem dX0_where_22 : decode cX0_where 22 = .ok (.aload_n 0, 1) := dk_42 (dk_at dksX0_where_0 22 rfl rfl)
theorem dX0_where_23 : decode cX0_where 23 = .ok (.getfield 10, 3) := dk_180 0 10 (dk_at dksX0_where_1 0 rfl rfl)
theorem dX0_where_26 : decode cX0_where 26 = .ok (.getfield 144, 3) := dk_180 0 144 (dk_at dksX0_where_1 3 rfl rfl)
theorem dX0_where_29 : decode cX0_where 29 = .ok (.iload_n 1, 1) := dk_27 (dk_at dksX0_where_1 6 rfl rfl)
theorem dX0_where_30 : decode cX0_where 30 = .ok (.invokevirtual 232, 3) := dk_182 0 232 (dk_at dksX0_where_1 7 rfl rfl)
theorem dX0_where_33 : decode cX0_where 33 = .ok (.checkcast 173, 3) := dk_192 0 173 (dk_at dksX0_where_1 10 rfl rfl)
theorem dX0_where_36 : decode cX0_where 36 = .ok (.getfield 260, 3) := dk_180 1 4 (dk_at dksX0_where_1 13 rfl rfl)
theorem dX0_where_39 : decode cX0_where 39 = .ok (.iload_n 3, 1) := dk_29 (dk_at dksX0_where_1 16 rfl rfl)
theorem dX0_where_40 : decode cX0_where 40 = .ok (.if_icmp .gt 13, 3) := dk_163 0 13 (dk_at dksX0_where_1 17 rfl rfl)
theorem dX0_where_43 : decode cX0_where 43 = .ok (.aload_n 0, 1) := dk_42 (dk_at dksX0_where_1 20 rfl rfl)
theorem dX0_where_44 : decode cX0_where 44 = .ok (.iload_n 1, 1) := dk_27 (dk_at dksX0_where_1 21 rfl rfl)
theorem dX0_where_45 : decode cX0_where 45 = .ok (.iload_n 2, 1) := dk_28 (dk_at dksX0_where_1 22 rfl rfl)
theorem dX0_where_46 : decode cX0_where 46 = .ok (.iload_n 3, 1) := dk_29 (dk_at dksX0_where_1 23 rfl rfl)
theorem dX0_where_47 : decode cX0_where 47 = .ok (.invokevirtual 263, 3) := dk_182 1 7 (dk_at dksX0_where_2 0 rfl rfl)
theorem dX0_where_50 : decode cX0_where 50 = .ok (.goto 4, 3) := dk_167 0 4 (dk_at dksX0_where_2 3 rfl rfl)
theorem dX0_where_53 : decode cX0_where 53 = .ok (.iconst (-1), 1) := dk_2 (dk_at dksX0_where_2 6 rfl rfl)
theorem dX0_where_54 : decode cX0_where 54 = .ok (.ireturn, 1) := dk_172 (dk_at dksX0_where_2 7 rfl rfl)
def dkwX0_placeOf_1 : List UInt8 := [180, 0, 10, 180, 0, 144, 27, 182, 0, 232, 192, 0, 173, 180, 0, 236, 172]
abbrev dktX0_placeOf_1 : List UInt8 := dkwX0_placeOf_1 ++ []
def dkwX0_placeOf_0 : List UInt8 := [42, 27, 28, 29, 182, 1, 1, 153, 0, 15, 42, 180, 0, 10, 180, 0, 194, 27, 46, 167, 0, 20, 42]
abbrev dktX0_placeOf_0 : List UInt8 := dkwX0_placeOf_0 ++ dktX0_placeOf_1
theorem dksX0_placeOf_0 : cX0_placeOf.data.toList.drop 0 = dktX0_placeOf_0 := by decide +kernel
theorem dksX0_placeOf_1 : cX0_placeOf.data.toList.drop 23 = dktX0_placeOf_1 := dk_seg dksX0_placeOf_0 23 rfl rfl
theorem dX0_placeOf_0 : decode cX0_placeOf 0 = .ok (.aload_n 0, 1) := dk_42 (dk_at dksX0_placeOf_0 0 rfl rfl)
theorem dX0_placeOf_1 : decode cX0_placeOf 1 = .ok (.iload_n 1, 1) := dk_27 (dk_at dksX0_placeOf_0 1 rfl rfl)
theorem dX0_placeOf_2 : decode cX0_placeOf 2 = .ok (.iload_n 2, 1) := dk_28 (dk_at dksX0_placeOf_0 2 rfl rfl)
theorem dX0_placeOf_3 : decode cX0_placeOf 3 = .ok (.iload_n 3, 1) := dk_29 (dk_at dksX0_placeOf_0 3 rfl rfl)
theorem dX0_placeOf_4 : decode cX0_placeOf 4 = .ok (.invokevirtual 257, 3) := dk_182 1 1 (dk_at dksX0_placeOf_0 4 rfl rfl)
theorem dX0_placeOf_7 : decode cX0_placeOf 7 = .ok (.ifCond .eq 15, 3) := dk_153 0 15 (dk_at dksX0_placeOf_0 7 rfl rfl)
theorem dX0_placeOf_10 : decode cX0_placeOf 10 = .ok (.aload_n 0, 1) := dk_42 (dk_at dksX0_placeOf_0 10 rfl rfl)
theorem dX0_placeOf_11 : decode cX0_placeOf 11 = .ok (.getfield 10, 3) := dk_180 0 10 (dk_at dksX0_placeOf_0 11 rfl rfl)
theorem dX0_placeOf_14 : decode cX0_placeOf 14 = .ok (.getfield 194, 3) := dk_180 0 194 (dk_at dksX0_placeOf_0 14 rfl rfl)
theorem dX0_placeOf_17 : decode cX0_placeOf 17 = .ok (.iload_n 1, 1) := dk_27 (dk_at dksX0_placeOf_0 17 rfl rfl)
theorem dX0_placeOf_18 : decode cX0_placeOf 18 = .ok (.iaload, 1) := dk_46 (dk_at dksX0_placeOf_0 18 rfl rfl)
theorem dX0_placeOf_19 : decode cX0_placeOf 19 = .ok (.goto 20, 3) := dk_167 0 20 (dk_at dksX0_placeOf_0 19 rfl rfl)
theorem dX0_placeOf_22 : decode cX0_placeOf 22 = .ok (.aload_n 0, 1) := dk_42 (dk_at dksX0_placeOf_0 22 rfl rfl)
theorem dX0_placeOf_23 : decode cX0_placeOf 23 = .ok (.getfield 10, 3) := dk_180 0 10 (dk_at dksX0_placeOf_1 0 rfl rfl)
theorem dX0_placeOf_26 : decode cX0_placeOf 26 = .ok (.getfield 144, 3) := dk_180 0 144 (dk_at dksX0_placeOf_1 3 rfl rfl)
theorem dX0_placeOf_29 : decode cX0_placeOf 29 = .ok (.iload_n 1, 1) := dk_27 (dk_at dksX0_placeOf_1 6 rfl rfl)
theorem dX0_placeOf_30 : decode cX0_placeOf 30 = .ok (.invokevirtual 232, 3) := dk_182 0 232 (dk_at dksX0_placeOf_1 7 rfl rfl)
theorem dX0_placeOf_33 : decode cX0_placeOf 33 = .ok (.checkcast 173, 3) := dk_192 0 173 (dk_at dksX0_placeOf_1 10 rfl rfl)
theorem dX0_placeOf_36 : decode cX0_placeOf 36 = .ok (.getfield 236, 3) := dk_180 0 236 (dk_at dksX0_placeOf_1 13 rfl rfl)
theorem dX0_placeOf_39 : decode cX0_placeOf 39 = .ok (.ireturn, 1) := dk_172 (dk_at dksX0_placeOf_1 16 rfl rfl)
def dkwX0_hasMoved_1 : List UInt8 := [163, 0, 20, 42, 180, 0, 10, 180, 0, 242, 27, 46, 29, 163, 0, 7, 4, 167, 0, 4, 3, 172]
abbrev dktX0_hasMoved_1 : List UInt8 := dkwX0_hasMoved_1 ++ []
def dkwX0_hasMoved_0 : List UInt8 := [42, 180, 0, 10, 180, 0, 194, 27, 46, 2, 159, 0, 33, 42, 180, 0, 10, 180, 0, 239, 27, 46, 28]
abbrev dktX0_hasMoved_0 : List UInt8 := dkwX0_hasMoved_0 ++ dktX0_hasMoved_1
theorem dksX0_hasMoved_0 : cX0_hasMoved.data.toList.drop 0 = dktX0_hasMoved_0 := by decide +kernel
theorem dksX0_hasMoved_1 : cX0_hasMoved.data.toList.drop 23 = dktX0_hasMoved_1 := dk_seg dksX0_hasMoved_0 23 rfl rfl
theorem dX0_hasMoved_0 : decode cX0_hasMoved 0 = .ok (.aload_n 0, 1) := dk_42 (dk_at dksX0_hasMoved_0 0 rfl rfl)
theorem dX0_hasMoved_1 : decode cX0_hasMoved 1 = .ok (.getfield 10, 3) := dk_180 0 10 (dk_at dksX0_hasMoved_0 1 rfl rfl)
theorem dX0_hasMoved_4 : decode cX0_hasMoved 4 = .ok (.getfield 194, 3) := dk_180 0 194 (dk_at dksX0_hasMoved_0 4 rfl rfl)
theorem dX0_hasMoved_7 : decode cX0_hasMoved 7 = .ok (.iload_n 1, 1) := dk_27 (dk_at dksX0_hasMoved_0 7 rfl rfl)
theorem dX0_hasMoved_8 : decode cX0_hasMoved 8 = .ok (.iaload, 1) := dk_46 (dk_at dksX0_hasMoved_0 8 rfl rfl)
theorem dX0_hasMoved_9 : decode cX0_hasMoved 9 = .ok (.iconst (-1), 1) := dk_2 (dk_at dksX0_hasMoved_0 9 rfl rfl)
theorem dX0_hasMoved_10 : decode cX0_hasMoved 10 = .ok (.if_icmp .eq 33, 3) := dk_159 0 33 (dk_at dksX0_hasMoved_0 10 rfl rfl)
theorem dX0_hasMoved_13 : decode cX0_hasMoved 13 = .ok (.aload_n 0, 1) := dk_42 (dk_at dksX0_hasMoved_0 13 rfl rfl)
theorem dX0_hasMoved_14 : decode cX0_hasMoved 14 = .ok (.getfield 10, 3) := dk_180 0 10 (dk_at dksX0_hasMoved_0 14 rfl rfl)
theorem dX0_hasMoved_17 : decode cX0_hasMoved 17 = .ok (.getfield 239, 3) := dk_180 0 239 (dk_at dksX0_hasMoved_0 17 rfl rfl)
theorem dX0_hasMoved_20 : decode cX0_hasMoved 20 = .ok (.iload_n 1, 1) := dk_27 (dk_at dksX0_hasMoved_0 20 rfl rfl)
theorem dX0_hasMoved_21 : decode cX0_hasMoved 21 = .ok (.iaload, 1) := dk_46 (dk_at dksX0_hasMoved_0 21 rfl rfl)
theorem dX0_hasMoved_22 : decode cX0_hasMoved 22 = .ok (.iload_n 2, 1) := dk_28 (dk_at dksX0_hasMoved_0 22 rfl rfl)
theorem dX0_hasMoved_23 : decode cX0_hasMoved 23 = .ok (.if_icmp .gt 20, 3) := dk_163 0 20 (dk_at dksX0_hasMoved_1 0 rfl rfl)
theorem dX0_hasMoved_26 : decode cX0_hasMoved 26 = .ok (.aload_n 0, 1) := dk_42 (dk_at dksX0_hasMoved_1 3 rfl rfl)
theorem dX0_hasMoved_27 : decode cX0_hasMoved 27 = .ok (.getfield 10, 3) := dk_180 0 10 (dk_at dksX0_hasMoved_1 4 rfl rfl)
theorem dX0_hasMoved_30 : decode cX0_hasMoved 30 = .ok (.getfield 242, 3) := dk_180 0 242 (dk_at dksX0_hasMoved_1 7 rfl rfl)
theorem dX0_hasMoved_33 : decode cX0_hasMoved 33 = .ok (.iload_n 1, 1) := dk_27 (dk_at dksX0_hasMoved_1 10 rfl rfl)
theorem dX0_hasMoved_34 : decode cX0_hasMoved 34 = .ok (.iaload, 1) := dk_46 (dk_at dksX0_hasMoved_1 11 rfl rfl)
theorem dX0_hasMoved_35 : decode cX0_hasMoved 35 = .ok (.iload_n 3, 1) := dk_29 (dk_at dksX0_hasMoved_1 12 rfl rfl)
theorem dX0_hasMoved_36 : decode cX0_hasMoved 36 = .ok (.if_icmp .gt 7, 3) := dk_163 0 7 (dk_at dksX0_hasMoved_1 13 rfl rfl)
theorem dX0_hasMoved_39 : decode cX0_hasMoved 39 = .ok (.iconst 1, 1) := dk_4 (dk_at dksX0_hasMoved_1 16 rfl rfl)
theorem dX0_hasMoved_40 : decode cX0_hasMoved 40 = .ok (.goto 4, 3) := dk_167 0 4 (dk_at dksX0_hasMoved_1 17 rfl rfl)
theorem dX0_hasMoved_43 : decode cX0_hasMoved 43 = .ok (.iconst 0, 1) := dk_3 (dk_at dksX0_hasMoved_1 20 rfl rfl)
theorem dX0_hasMoved_44 : decode cX0_hasMoved 44 = .ok (.ireturn, 1) := dk_172 (dk_at dksX0_hasMoved_1 21 rfl rfl)
def dkwX0_like_1 : List UInt8 := [182, 1, 11, 167, 0, 4, 2, 172]
abbrev dktX0_like_1 : List UInt8 := dkwX0_like_1 ++ []
def dkwX0_like_0 : List UInt8 := [42, 27, 182, 0, 226, 153, 0, 25, 42, 28, 182, 0, 226, 153, 0, 17, 27, 28, 159, 0, 12, 42, 27, 28]
abbrev dktX0_like_0 : List UInt8 := dkwX0_like_0 ++ dktX0_like_1
theorem dksX0_like_0 : cX0_like.data.toList.drop 0 = dktX0_like_0 := by decide +kernel
theorem dksX0_like_1 : cX0_like.data.toList.drop 24 = dktX0_like_1 := dk_seg dksX0_like_0 24 rfl rfl
theorem dX0_like_0 : decode cX0_like 0 = .ok (.aload_n 0, 1) := dk_42 (dk_at dksX0_like_0 0 rfl rfl)
theorem dX0_like_1 : decode cX0_like 1 = .ok (.iload_n 1, 1) := dk_27 (dk_at dksX0_like_0 1 rfl rfl)
theorem dX0_like_2 : decode cX0_like 2 = .ok (.invokevirtual 226, 3) := dk_182 0 226 (dk_at dksX0_like_0 2 rfl rfl)
theorem dX0_like_5 : decode cX0_like 5 = .ok (.ifCond .eq 25, 3) := dk_153 0 25 (dk_at dksX0_like_0 5 rfl rfl)
theorem dX0_like_8 : decode cX0_like 8 = .ok (.aload_n 0, 1) := dk_42 (dk_at dksX0_like_0 8 rfl rfl)
theorem dX0_like_9 : decode cX0_like 9 = .ok (.iload_n 2, 1) := dk_28 (dk_at dksX0_like_0 9 rfl rfl)
theorem dX0_like_10 : decode cX0_like 10 = .ok (.invokevirtual 226, 3) := dk_182 0 226 (dk_at dksX0_like_0 10 rfl rfl)
theorem dX0_like_13 : decode cX0_like 13 = .ok (.ifCond .eq 17, 3) := dk_153 0 17 (dk_at dksX0_like_0 13 rfl rfl)
theorem dX0_like_16 : decode cX0_like 16 = .ok (.iload_n 1, 1) := dk_27 (dk_at dksX0_like_0 16 rfl rfl)
theorem dX0_like_17 : decode cX0_like 17 = .ok (.iload_n 2, 1) := dk_28 (dk_at dksX0_like_0 17 rfl rfl)
theorem dX0_like_18 : decode cX0_like 18 = .ok (.if_icmp .eq 12, 3) := dk_159 0 12 (dk_at dksX0_like_0 18 rfl rfl)
theorem dX0_like_21 : decode cX0_like 21 = .ok (.aload_n 0, 1) := dk_42 (dk_at dksX0_like_0 21 rfl rfl)
theorem dX0_like_22 : decode cX0_like 22 = .ok (.iload_n 1, 1) := dk_27 (dk_at dksX0_like_0 22 rfl rfl)
theorem dX0_like_23 : decode cX0_like 23 = .ok (.iload_n 2, 1) := dk_28 (dk_at dksX0_like_0 23 rfl rfl)
theorem dX0_like_24 : decode cX0_like 24 = .ok (.invokevirtual 267, 3) := dk_182 1 11 (dk_at dksX0_like_1 0 rfl rfl)
theorem dX0_like_27 : decode cX0_like 27 = .ok (.goto 4, 3) := dk_167 0 4 (dk_at dksX0_like_1 3 rfl rfl)
theorem dX0_like_30 : decode cX0_like 30 = .ok (.iconst (-1), 1) := dk_2 (dk_at dksX0_like_1 6 rfl rfl)
theorem dX0_like_31 : decode cX0_like 31 = .ok (.ireturn, 1) := dk_172 (dk_at dksX0_like_1 7 rfl rfl)
def dkwX0_likeOf_5 : List UInt8 := [167, 0, 4, 3, 96, 54, 5, 132, 6, 1, 167, 255, 205, 21, 5, 172]
abbrev dktX0_likeOf_5 : List UInt8 := dkwX0_likeOf_5 ++ []
def dkwX0_likeOf_4 : List UInt8 := [17, 0, 255, 126, 25, 4, 180, 0, 254, 16, 8, 21, 6, 104, 122, 17, 0, 255, 126, 160, 0, 7, 4]
abbrev dktX0_likeOf_4 : List UInt8 := dkwX0_likeOf_4 ++ dktX0_likeOf_5
def dkwX0_likeOf_3 : List UInt8 := [54, 5, 3, 54, 6, 21, 6, 7, 162, 0, 51, 21, 5, 45, 180, 0, 254, 16, 8, 21, 6, 104, 122]
abbrev dktX0_likeOf_3 : List UInt8 := dkwX0_likeOf_3 ++ dktX0_likeOf_4
def dkwX0_likeOf_2 : List UInt8 := [3, 45, 180, 0, 248, 25, 4, 180, 0, 248, 100, 184, 1, 15, 5, 163, 0, 7, 4, 167, 0, 4, 3, 96]
abbrev dktX0_likeOf_2 : List UInt8 := dkwX0_likeOf_2 ++ dktX0_likeOf_3
def dkwX0_likeOf_1 : List UInt8 := [182, 0, 232, 192, 0, 173, 58, 4, 45, 180, 0, 245, 25, 4, 180, 0, 245, 160, 0, 7, 4, 167, 0, 4]
abbrev dktX0_likeOf_1 : List UInt8 := dkwX0_likeOf_1 ++ dktX0_likeOf_2
def dkwX0_likeOf_0 : List UInt8 := [42, 180, 0, 10, 180, 0, 144, 27, 182, 0, 232, 192, 0, 173, 78, 42, 180, 0, 10, 180, 0, 144, 28]
abbrev dktX0_likeOf_0 : List UInt8 := dkwX0_likeOf_0 ++ dktX0_likeOf_1
theorem dksX0_likeOf_0 : cX0_likeOf.data.toList.drop 0 = dktX0_likeOf_0 := by decide +kernel
theorem dksX0_likeOf_1 : cX0_likeOf.data.toList.drop 23 = dktX0_likeOf_1 := dk_seg dksX0_likeOf_0 23 rfl rfl
theorem dksX0_likeOf_2 : cX0_likeOf.data.toList.drop 47 = dktX0_likeOf_2 := dk_seg dksX0_likeOf_1 24 rfl rfl
theorem dksX0_likeOf_3 : cX0_likeOf.data.toList.drop 71 = dktX0_likeOf_3 := dk_seg dksX0_likeOf_2 24 rfl rfl
theorem dksX0_likeOf_4 : cX0_likeOf.data.toList.drop 94 = dktX0_likeOf_4 := dk_seg dksX0_likeOf_3 23 rfl rfl
theorem dksX0_likeOf_5 : cX0_likeOf.data.toList.drop 117 = dktX0_likeOf_5 := dk_seg dksX0_likeOf_4 23 rfl rfl
theorem dX0_likeOf_0 : decode cX0_likeOf 0 = .ok (.aload_n 0, 1) := dk_42 (dk_at dksX0_likeOf_0 0 rfl rfl)
theorem dX0_likeOf_1 : decode cX0_likeOf 1 = .ok (.getfield 10, 3) := dk_180 0 10 (dk_at dksX0_likeOf_0 1 rfl rfl)
theorem dX0_likeOf_4 : decode cX0_likeOf 4 = .ok (.getfield 144, 3) := dk_180 0 144 (dk_at dksX0_likeOf_0 4 rfl rfl)
theorem dX0_likeOf_7 : decode cX0_likeOf 7 = .ok (.iload_n 1, 1) := dk_27 (dk_at dksX0_likeOf_0 7 rfl rfl)
theorem dX0_likeOf_8 : decode cX0_likeOf 8 = .ok (.invokevirtual 232, 3) := dk_182 0 232 (dk_at dksX0_likeOf_0 8 rfl rfl)
theorem dX0_likeOf_11 : decode cX0_likeOf 11 = .ok (.checkcast 173, 3) := dk_192 0 173 (dk_at dksX0_likeOf_0 11 rfl rfl)
theorem dX0_likeOf_14 : decode cX0_likeOf 14 = .ok (.astore_n 3, 1) := dk_78 (dk_at dksX0_likeOf_0 14 rfl rfl)
theorem dX0_likeOf_15 : decode cX0_likeOf 15 = .ok (.aload_n 0, 1) := dk_42 (dk_at dksX0_likeOf_0 15 rfl rfl)
theorem dX0_likeOf_16 : decode cX0_likeOf 16 = .ok (.getfield 10, 3) := dk_180 0 10 (dk_at dksX0_likeOf_0 16 rfl rfl)
theorem dX0_likeOf_19 : decode cX0_likeOf 19 = .ok (.getfield 144, 3) := dk_180 0 144 (dk_at dksX0_likeOf_0 19 rfl rfl)
theorem dX0_likeOf_22 : decode cX0_likeOf 22 = .ok (.iload_n 2, 1) := dk_28 (dk_at dksX0_likeOf_0 22 rfl rfl)
theorem dX0_likeOf_23 : decode cX0_likeOf 23 = .ok (.invokevirtual 232, 3) := dk_182 0 232 (dk_at dksX0_likeOf_1 0 rfl rfl)
theorem dX0_likeOf_26 : decode cX0_likeOf 26 = .ok (.checkcast 173, 3) := dk_192 0 173 (dk_at dksX0_likeOf_1 3 rfl rfl)
theorem dX0_likeOf_29 : decode cX0_likeOf 29 = .ok (.astore 4, 2) := dk_58 4 (dk_at dksX0_likeOf_1 6 rfl rfl)
theorem dX0_likeOf_31 : decode cX0_likeOf 31 = .ok (.aload_n 3, 1) := dk_45 (dk_at dksX0_likeOf_1 8 rfl rfl)
theorem dX0_likeOf_32 : decode cX0_likeOf 32 = .ok (.getfield 245, 3) := dk_180 0 245 (dk_at dksX0_likeOf_1 9 rfl rfl)
theorem dX0_likeOf_35 : decode cX0_likeOf 35 = .ok (.aload 4, 2) := dk_25 4 (dk_at dksX0_likeOf_1 12 rfl rfl)
theorem dX0_likeOf_37 : decode cX0_likeOf 37 = .ok (.getfield 245, 3) := dk_180 0 245 (dk_at dksX0_likeOf_1 14 rfl rfl)
theorem dX0_likeOf_40 : decode cX0_likeOf 40 = .ok (.if_icmp .ne 7, 3) := dk_160 0 7 (dk_at dksX0_likeOf_1 17 rfl rfl)
theorem dX0_likeOf_43 : decode cX0_likeOf 43 = .ok (.iconst 1, 1) := dk_4 (dk_at dksX0_likeOf_1 20 rfl rfl)
theorem dX0_likeOf_44 : decode cX0_likeOf 44 = .ok (.goto 4, 3) := dk_167 0 4 (dk_at dksX0_likeOf_1 21 rfl rfl)
theorem dX0_likeOf_47 : decode cX0_likeOf 47 = .ok (.iconst 0, 1) := dk_3 (dk_at dksX0_likeOf_2 0 rfl rfl)
theorem dX0_likeOf_48 : decode cX0_likeOf 48 = .ok (.aload_n 3, 1) := dk_45 (dk_at dksX0_likeOf_2 1 rfl rfl)
theorem dX0_likeOf_49 : decode cX0_likeOf 49 = .ok (.getfield 248, 3) := dk_180 0 248 (dk_at dksX0_likeOf_2 2 rfl rfl)
theorem dX0_likeOf_52 : decode cX0_likeOf 52 = .ok (.aload 4, 2) := dk_25 4 (dk_at dksX0_likeOf_2 5 rfl rfl)
theorem dX0_likeOf_54 : decode cX0_likeOf 54 = .ok (.getfield 248, 3) := dk_180 0 248 (dk_at dksX0_likeOf_2 7 rfl rfl)
theorem dX0_likeOf_57 : decode cX0_likeOf 57 = .ok (.isub, 1) := dk_100 (dk_at dksX0_likeOf_2 10 rfl rfl)
theorem dX0_likeOf_58 : decode cX0_likeOf 58 = .ok (.invokestatic 271, 3) := dk_184 1 15 (dk_at dksX0_likeOf_2 11 rfl rfl)
theorem dX0_likeOf_61 : decode cX0_likeOf 61 = .ok (.iconst 2, 1) := dk_5 (dk_at dksX0_likeOf_2 14 rfl rfl)
theorem dX0_likeOf_62 : decode cX0_likeOf 62 = .ok (.if_icmp .gt 7, 3) := dk_163 0 7 (dk_at dksX0_likeOf_2 15 rfl rfl)
theorem dX0_likeOf_65 : decode cX0_likeOf 65 = .ok (.iconst 1, 1) := dk_4 (dk_at dksX0_likeOf_2 18 rfl rfl)
theorem dX0_likeOf_66 : decode cX0_likeOf 66 = .ok (.goto 4, 3) := dk_167 0 4 (dk_at dksX0_likeOf_2 19 rfl rfl)
theorem dX0_likeOf_69 : decode cX0_likeOf 69 = .ok (.iconst 0, 1) := dk_3 (dk_at dksX0_likeOf_2 22 rfl rfl)
theorem dX0_likeOf_70 : decode cX0_likeOf 70 = .ok (.iadd, 1) := dk_96 (dk_at dksX0_likeOf_2 23 rfl rfl)
theorem dX0_likeOf_71 : decode cX0_likeOf 71 = .ok (.istore 5, 2) := dk_54 5 (dk_at dksX0_likeOf_3 0 rfl rfl)
theorem dX0_likeOf_73 : decode cX0_likeOf 73 = .ok (.iconst 0, 1) := dk_3 (dk_at dksX0_likeOf_3 2 rfl rfl)
theorem dX0_likeOf_74 : decode cX0_likeOf 74 = .ok (.istore 6, 2) := dk_54 6 (dk_at dksX0_likeOf_3 3 rfl rfl)
theorem dX0_likeOf_76 : decode cX0_likeOf 76 = .ok (.iload 6, 2) := dk_21 6 (dk_at dksX0_likeOf_3 5 rfl rfl)
theorem dX0_likeOf_78 : decode cX0_likeOf 78 = .ok (.iconst 4, 1) := dk_7 (dk_at dksX0_likeOf_3 7 rfl rfl)
theorem dX0_likeOf_79 : decode cX0_likeOf 79 = .ok (.if_icmp .ge 51, 3) := dk_162 0 51 (dk_at dksX0_likeOf_3 8 rfl rfl)
theorem dX0_likeOf_82 : decode cX0_likeOf 82 = .ok (.iload 5, 2) := dk_21 5 (dk_at dksX0_likeOf_3 11 rfl rfl)
theorem dX0_likeOf_84 : decode cX0_likeOf 84 = .ok (.aload_n 3, 1) := dk_45 (dk_at dksX0_likeOf_3 13 rfl rfl)
theorem dX0_likeOf_85 : decode cX0_likeOf 85 = .ok (.getfield 254, 3) := dk_180 0 254 (dk_at dksX0_likeOf_3 14 rfl rfl)
theorem dX0_likeOf_88 : decode cX0_likeOf 88 = .ok (.bipush 8, 2) := dk_16 8 (dk_at dksX0_likeOf_3 17 rfl rfl)
theorem dX0_likeOf_90 : decode cX0_likeOf 90 = .ok (.iload 6, 2) := dk_21 6 (dk_at dksX0_likeOf_3 19 rfl rfl)
theorem dX0_likeOf_92 : decode cX0_likeOf 92 = .ok (.imul, 1) := dk_104 (dk_at dksX0_likeOf_3 21 rfl rfl)
theorem dX0_likeOf_93 : decode cX0_likeOf 93 = .ok (.ishr, 1) := dk_122 (dk_at dksX0_likeOf_3 22 rfl rfl)
theorem dX0_likeOf_94 : decode cX0_likeOf 94 = .ok (.sipush 255, 3) := dk_17 0 255 (dk_at dksX0_likeOf_4 0 rfl rfl)
theorem dX0_likeOf_97 : decode cX0_likeOf 97 = .ok (.iand, 1) := dk_126 (dk_at dksX0_likeOf_4 3 rfl rfl)
theorem dX0_likeOf_98 : decode cX0_likeOf 98 = .ok (.aload 4, 2) := dk_25 4 (dk_at dksX0_likeOf_4 4 rfl rfl)
theorem dX0_likeOf_100 : decode cX0_likeOf 100 = .ok (.getfield 254, 3) := dk_180 0 254 (dk_at dksX0_likeOf_4 6 rfl rfl)
theorem dX0_likeOf_103 : decode cX0_likeOf 103 = .ok (.bipush 8, 2) := dk_16 8 (dk_at dksX0_likeOf_4 9 rfl rfl)
theorem dX0_likeOf_105 : decode cX0_likeOf 105 = .ok (.iload 6, 2) := dk_21 6 (dk_at dksX0_likeOf_4 11 rfl rfl)
theorem dX0_likeOf_107 : decode cX0_likeOf 107 = .ok (.imul, 1) := dk_104 (dk_at dksX0_likeOf_4 13 rfl rfl)
theorem dX0_likeOf_108 : decode cX0_likeOf 108 = .ok (.ishr, 1) := dk_122 (dk_at dksX0_likeOf_4 14 rfl rfl)
theorem dX0_likeOf_109 : decode cX0_likeOf 109 = .ok (.sipush 255, 3) := dk_17 0 255 (dk_at dksX0_likeOf_4 15 rfl rfl)
theorem dX0_likeOf_112 : decode cX0_likeOf 112 = .ok (.iand, 1) := dk_126 (dk_at dksX0_likeOf_4 18 rfl rfl)
theorem dX0_likeOf_113 : decode cX0_likeOf 113 = .ok (.if_icmp .ne 7, 3) := dk_160 0 7 (dk_at dksX0_likeOf_4 19 rfl rfl)
theorem dX0_likeOf_116 : decode cX0_likeOf 116 = .ok (.iconst 1, 1) := dk_4 (dk_at dksX0_likeOf_4 22 rfl rfl)
theorem dX0_likeOf_117 : decode cX0_likeOf 117 = .ok (.goto 4, 3) := dk_167 0 4 (dk_at dksX0_likeOf_5 0 rfl rfl)
theorem dX0_likeOf_120 : decode cX0_likeOf 120 = .ok (.iconst 0, 1) := dk_3 (dk_at dksX0_likeOf_5 3 rfl rfl)
theorem dX0_likeOf_121 : decode cX0_likeOf 121 = .ok (.iadd, 1) := dk_96 (dk_at dksX0_likeOf_5 4 rfl rfl)
theorem dX0_likeOf_122 : decode cX0_likeOf 122 = .ok (.istore 5, 2) := dk_54 5 (dk_at dksX0_likeOf_5 5 rfl rfl)
theorem dX0_likeOf_124 : decode cX0_likeOf 124 = .ok (.iinc 6 1, 3) := dk_132 6 1 (dk_at dksX0_likeOf_5 7 rfl rfl)
theorem dX0_likeOf_127 : decode cX0_likeOf 127 = .ok (.goto (-51), 3) := dk_167 255 205 (dk_at dksX0_likeOf_5 10 rfl rfl)
theorem dX0_likeOf_130 : decode cX0_likeOf 130 = .ok (.iload 5, 2) := dk_21 5 (dk_at dksX0_likeOf_5 13 rfl rfl)
theorem dX0_likeOf_132 : decode cX0_likeOf 132 = .ok (.ireturn, 1) := dk_172 (dk_at dksX0_likeOf_5 15 rfl rfl)
def dkwX0_apart_3 : List UInt8 := [3, 3, 183, 1, 25, 182, 0, 178, 87, 42, 42, 180, 0, 10, 180, 1, 20, 182, 0, 148, 182, 0, 138, 172]
abbrev dktX0_apart_3 : List UInt8 := dkwX0_apart_3 ++ []
def dkwX0_apart_2 : List UInt8 := [160, 0, 10, 42, 16, 251, 182, 0, 131, 172, 42, 180, 0, 10, 180, 1, 20, 187, 1, 23, 89, 27, 28, 3]
abbrev dktX0_apart_2 : List UInt8 := dkwX0_apart_2 ++ dktX0_apart_3
def dkwX0_apart_1 : List UInt8 := [28, 160, 0, 10, 42, 16, 253, 182, 0, 131, 172, 42, 180, 0, 10, 180, 1, 20, 182, 0, 148, 16, 40]
abbrev dktX0_apart_1 : List UInt8 := dkwX0_apart_1 ++ dktX0_apart_2
def dkwX0_apart_0 : List UInt8 := [42, 27, 182, 0, 226, 153, 0, 11, 42, 28, 182, 0, 226, 154, 0, 10, 42, 16, 254, 182, 0, 131, 172, 27]
abbrev dktX0_apart_0 : List UInt8 := dkwX0_apart_0 ++ dktX0_apart_1
theorem dksX0_apart_0 : cX0_apart.data.toList.drop 0 = dktX0_apart_0 := by decide +kernel
theorem dksX0_apart_1 : cX0_apart.data.toList.drop 24 = dktX0_apart_1 := dk_seg dksX0_apart_0 24 rfl rfl
theorem dksX0_apart_2 : cX0_apart.data.toList.drop 47 = dktX0_apart_2 := dk_seg dksX0_apart_1 23 rfl rfl
theorem dksX0_apart_3 : cX0_apart.data.toList.drop 71 = dktX0_apart_3 := dk_seg dksX0_apart_2 24 rfl rfl
theorem dX0_apart_0 : decode cX0_apart 0 = .ok (.aload_n 0, 1) := dk_42 (dk_at dksX0_apart_0 0 rfl rfl)
theorem dX0_apart_1 : decode cX0_apart 1 = .ok (.iload_n 1, 1) := dk_27 (dk_at dksX0_apart_0 1 rfl rfl)
theorem dX0_apart_2 : decode cX0_apart 2 = .ok (.invokevirtual 226, 3) := dk_182 0 226 (dk_at dksX0_apart_0 2 rfl rfl)
theorem dX0_apart_5 : decode cX0_apart 5 = .ok (.ifCond .eq 11, 3) := dk_153 0 11 (dk_at dksX0_apart_0 5 rfl rfl)
theorem dX0_apart_8 : decode cX0_apart 8 = .ok (.aload_n 0, 1) := dk_42 (dk_at dksX0_apart_0 8 rfl rfl)
theorem dX0_apart_9 : decode cX0_apart 9 = .ok (.iload_n 2, 1) := dk_28 (dk_at dksX0_apart_0 9 rfl rfl)
theorem dX0_apart_10 : decode cX0_apart 10 = .ok (.invokevirtual 226, 3) := dk_182 0 226 (dk_at dksX0_apart_0 10 rfl rfl)
theorem dX0_apart_13 : decode cX0_apart 13 = .ok (.ifCond .ne 10, 3) := dk_154 0 10 (dk_at dksX0_apart_0 13 rfl rfl)
theorem dX0_apart_16 : decode cX0_apart 16 = .ok (.aload_n 0, 1) := dk_42 (dk_at dksX0_apart_0 16 rfl rfl)
theorem dX0_apart_17 : decode cX0_apart 17 = .ok (.bipush (-2), 2) := dk_16 254 (dk_at dksX0_apart_0 17 rfl rfl)
theorem dX0_apart_19 : decode cX0_apart 19 = .ok (.invokevirtual 131, 3) := dk_182 0 131 (dk_at dksX0_apart_0 19 rfl rfl)
theorem dX0_apart_22 : decode cX0_apart 22 = .ok (.ireturn, 1) := dk_172 (dk_at dksX0_apart_0 22 rfl rfl)
theorem dX0_apart_23 : decode cX0_apart 23 = .ok (.iload_n 1, 1) := dk_27 (dk_at dksX0_apart_0 23 rfl rfl)
theorem dX0_apart_24 : decode cX0_apart 24 = .ok (.iload_n 2, 1) := dk_28 (dk_at dksX0_apart_1 0 rfl rfl)
theorem dX0_apart_25 : decode cX0_apart 25 = .ok (.if_icmp .ne 10, 3) := dk_160 0 10 (dk_at dksX0_apart_1 1 rfl rfl)
theorem dX0_apart_28 : decode cX0_apart 28 = .ok (.aload_n 0, 1) := dk_42 (dk_at dksX0_apart_1 4 rfl rfl)
theorem dX0_apart_29 : decode cX0_apart 29 = .ok (.bipush (-3), 2) := dk_16 253 (dk_at dksX0_apart_1 5 rfl rfl)
theorem dX0_apart_31 : decode cX0_apart 31 = .ok (.invokevirtual 131, 3) := dk_182 0 131 (dk_at dksX0_apart_1 7 rfl rfl)
theorem dX0_apart_34 : decode cX0_apart 34 = .ok (.ireturn, 1) := dk_172 (dk_at dksX0_apart_1 10 rfl rfl)
theorem dX0_apart_35 : decode cX0_apart 35 = .ok (.aload_n 0, 1) := dk_42 (dk_at dksX0_apart_1 11 rfl rfl)
theorem dX0_apart_36 : decode cX0_apart 36 = .ok (.getfield 10, 3) := dk_180 0 10 (dk_at dksX0_apart_1 12 rfl rfl)
theorem dX0_apart_39 : decode cX0_apart 39 = .ok (.getfield 276, 3) := dk_180 1 20 (dk_at dksX0_apart_1 15 rfl rfl)
theorem dX0_apart_42 : decode cX0_apart 42 = .ok (.invokevirtual 148, 3) := dk_182 0 148 (dk_at dksX0_apart_1 18 rfl rfl)
theorem dX0_apart_45 : decode cX0_apart 45 = .ok (.bipush 40, 2) := dk_16 40 (dk_at dksX0_apart_1 21 rfl rfl)
theorem dX0_apart_47 : decode cX0_apart 47 = .ok (.if_icmp .ne 10, 3) := dk_160 0 10 (dk_at dksX0_apart_2 0 rfl rfl)
theorem dX0_apart_50 : decode cX0_apart 50 = .ok (.aload_n 0, 1) := dk_42 (dk_at dksX0_apart_2 3 rfl rfl)
theorem dX0_apart_51 : decode cX0_apart 51 = .ok (.bipush (-5), 2) := dk_16 251 (dk_at dksX0_apart_2 4 rfl rfl)
theorem dX0_apart_53 : decode cX0_apart 53 = .ok (.invokevirtual 131, 3) := dk_182 0 131 (dk_at dksX0_apart_2 6 rfl rfl)
theorem dX0_apart_56 : decode cX0_apart 56 = .ok (.ireturn, 1) := dk_172 (dk_at dksX0_apart_2 9 rfl rfl)
theorem dX0_apart_57 : decode cX0_apart 57 = .ok (.aload_n 0, 1) := dk_42 (dk_at dksX0_apart_2 10 rfl rfl)
theorem dX0_apart_58 : decode cX0_apart 58 = .ok (.getfield 10, 3) := dk_180 0 10 (dk_at dksX0_apart_2 11 rfl rfl)
theorem dX0_apart_61 : decode cX0_apart 61 = .ok (.getfield 276, 3) := dk_180 1 20 (dk_at dksX0_apart_2 14 rfl rfl)
theorem dX0_apart_64 : decode cX0_apart 64 = .ok (.new 279, 3) := dk_187 1 23 (dk_at dksX0_apart_2 17 rfl rfl)
theorem dX0_apart_67 : decode cX0_apart 67 = .ok (.dup, 1) := dk_89 (dk_at dksX0_apart_2 20 rfl rfl)
theorem dX0_apart_68 : decode cX0_apart 68 = .ok (.iload_n 1, 1) := dk_27 (dk_at dksX0_apart_2 21 rfl rfl)
theorem dX0_apart_69 : decode cX0_apart 69 = .ok (.iload_n 2, 1) := dk_28 (dk_at dksX0_apart_2 22 rfl rfl)
theorem dX0_apart_70 : decode cX0_apart 70 = .ok (.iconst 0, 1) := dk_3 (dk_at dksX0_apart_2 23 rfl rfl)
theorem dX0_apart_71 : decode cX0_apart 71 = .ok (.iconst 0, 1) := dk_3 (dk_at dksX0_apart_3 0 rfl rfl)
theorem dX0_apart_72 : decode cX0_apart 72 = .ok (.iconst 0, 1) := dk_3 (dk_at dksX0_apart_3 1 rfl rfl)
theorem dX0_apart_73 : decode cX0_apart 73 = .ok (.invokespecial 281, 3) := dk_183 1 25 (dk_at dksX0_apart_3 2 rfl rfl)
theorem dX0_apart_76 : decode cX0_apart 76 = .ok (.invokevirtual 178, 3) := dk_182 0 178 (dk_at dksX0_apart_3 5 rfl rfl)
theorem dX0_apart_79 : decode cX0_apart 79 = .ok (.pop, 1) := dk_87 (dk_at dksX0_apart_3 8 rfl rfl)
theorem dX0_apart_80 : decode cX0_apart 80 = .ok (.aload_n 0, 1) := dk_42 (dk_at dksX0_apart_3 9 rfl rfl)
theorem dX0_apart_81 : decode cX0_apart 81 = .ok (.aload_n 0, 1) := dk_42 (dk_at dksX0_apart_3 10 rfl rfl)
theorem dX0_apart_82 : decode cX0_apart 82 = .ok (.getfield 10, 3) := dk_180 0 10 (dk_at dksX0_apart_3 11 rfl rfl)
theorem dX0_apart_85 : decode cX0_apart 85 = .ok (.getfield 276, 3) := dk_180 1 20 (dk_at dksX0_apart_3 14 rfl rfl)
theorem dX0_apart_88 : decode cX0_apart 88 = .ok (.invokevirtual 148, 3) := dk_182 0 148 (dk_at dksX0_apart_3 17 rfl rfl)
theorem dX0_apart_91 : decode cX0_apart 91 = .ok (.invokevirtual 138, 3) := dk_182 0 138 (dk_at dksX0_apart_3 20 rfl rfl)
theorem dX0_apart_94 : decode cX0_apart 94 = .ok (.ireturn, 1) := dk_172 (dk_at dksX0_apart_3 23 rfl rfl)
def dkwX0_feed_2 : List UInt8 := [172]
abbrev dktX0_feed_2 : List UInt8 := dkwX0_feed_2 ++ []
def dkwX0_feed_1 : List UInt8 := [182, 1, 32, 42, 29, 182, 1, 32, 42, 21, 4, 182, 1, 32, 42, 21, 5, 182, 1, 32, 42, 180, 0, 213]
abbrev dktX0_feed_1 : List UInt8 := dkwX0_feed_1 ++ dktX0_feed_2
def dkwX0_feed_0 : List UInt8 := [42, 180, 0, 213, 16, 20, 96, 17, 1, 144, 164, 0, 5, 2, 172, 42, 27, 182, 1, 32, 42, 28]
abbrev dktX0_feed_0 : List UInt8 := dkwX0_feed_0 ++ dktX0_feed_1
theorem dksX0_feed_0 : cX0_feed.data.toList.drop 0 = dktX0_feed_0 := by decide +kernel
theorem dksX0_feed_1 : cX0_feed.data.toList.drop 22 = dktX0_feed_1 := dk_seg dksX0_feed_0 22 rfl rfl
theorem dksX0_feed_2 : cX0_feed.data.toList.drop 46 = dktX0_feed_2 := dk_seg dksX0_feed_1 24 rfl rfl
theorem dX0_feed_0 : decode cX0_feed 0 = .ok (.aload_n 0, 1) := dk_42 (dk_at dksX0_feed_0 0 rfl rfl)
theorem dX0_feed_1 : decode cX0_feed 1 = .ok (.getfield 213, 3) := dk_180 0 213 (dk_at dksX0_feed_0 1 rfl rfl)
theorem dX0_feed_4 : decode cX0_feed 4 = .ok (.bipush 20, 2) := dk_16 20 (dk_at dksX0_feed_0 4 rfl rfl)
theorem dX0_feed_6 : decode cX0_feed 6 = .ok (.iadd, 1) := dk_96 (dk_at dksX0_feed_0 6 rfl rfl)
theorem dX0_feed_7 : decode cX0_feed 7 = .ok (.sipush 400, 3) := dk_17 1 144 (dk_at dksX0_feed_0 7 rfl rfl)
theorem dX0_feed_10 : decode cX0_feed 10 = .ok (.if_icmp .le 5, 3) := dk_164 0 5 (dk_at dksX0_feed_0 10 rfl rfl)
theorem dX0_feed_13 : decode cX0_feed 13 = .ok (.iconst (-1), 1) := dk_2 (dk_at dksX0_feed_0 13 rfl rfl)
theorem dX0_feed_14 : decode cX0_feed 14 = .ok (.ireturn, 1) := dk_172 (dk_at dksX0_feed_0 14 rfl rfl)
theorem dX0_feed_15 : decode cX0_feed 15 = .ok (.aload_n 0, 1) := dk_42 (dk_at dksX0_feed_0 15 rfl rfl)
theorem dX0_feed_16 : decode cX0_feed 16 = .ok (.iload_n 1, 1) := dk_27 (dk_at dksX0_feed_0 16 rfl rfl)
theorem dX0_feed_17 : decode cX0_feed 17 = .ok (.invokevirtual 288, 3) := dk_182 1 32 (dk_at dksX0_feed_0 17 rfl rfl)
theorem dX0_feed_20 : decode cX0_feed 20 = .ok (.aload_n 0, 1) := dk_42 (dk_at dksX0_feed_0 20 rfl rfl)
theorem dX0_feed_21 : decode cX0_feed 21 = .ok (.iload_n 2, 1) := dk_28 (dk_at dksX0_feed_0 21 rfl rfl)
theorem dX0_feed_22 : decode cX0_feed 22 = .ok (.invokevirtual 288, 3) := dk_182 1 32 (dk_at dksX0_feed_1 0 rfl rfl)
theorem dX0_feed_25 : decode cX0_feed 25 = .ok (.aload_n 0, 1) := dk_42 (dk_at dksX0_feed_1 3 rfl rfl)
theorem dX0_feed_26 : decode cX0_feed 26 = .ok (.iload_n 3, 1) := dk_29 (dk_at dksX0_feed_1 4 rfl rfl)
theorem dX0_feed_27 : decode cX0_feed 27 = .ok (.invokevirtual 288, 3) := dk_182 1 32 (dk_at dksX0_feed_1 5 rfl rfl)
theorem dX0_feed_30 : decode cX0_feed 30 = .ok (.aload_n 0, 1) := dk_42 (dk_at dksX0_feed_1 8 rfl rfl)
theorem dX0_feed_31 : decode cX0_feed 31 = .ok (.iload 4, 2) := dk_21 4 (dk_at dksX0_feed_1 9 rfl rfl)
theorem dX0_feed_33 : decode cX0_feed 33 = .ok (.invokevirtual 288, 3) := dk_182 1 32 (dk_at dksX0_feed_1 11 rfl rfl)
theorem dX0_feed_36 : decode cX0_feed 36 = .ok (.aload_n 0, 1) := dk_42 (dk_at dksX0_feed_1 14 rfl rfl)
theorem dX0_feed_37 : decode cX0_feed 37 = .ok (.iload 5, 2) := dk_21 5 (dk_at dksX0_feed_1 15 rfl rfl)
theorem dX0_feed_39 : decode cX0_feed 39 = .ok (.invokevirtual 288, 3) := dk_182 1 32 (dk_at dksX0_feed_1 17 rfl rfl)
theorem dX0_feed_42 : decode cX0_feed 42 = .ok (.aload_n 0, 1) := dk_42 (dk_at dksX0_feed_1 20 rfl rfl)
theorem dX0_feed_43 : decode cX0_feed 43 = .ok (.getfield 213, 3) := dk_180 0 213 (dk_at dksX0_feed_1 21 rfl rfl)
theorem dX0_feed_46 : decode cX0_feed 46 = .ok (.ireturn, 1) := dk_172 (dk_at dksX0_feed_2 0 rfl rfl)
def dkwX0_four_1 : List UInt8 := [180, 0, 213, 4, 96, 181, 0, 213, 132, 2, 248, 167, 255, 226, 177]
abbrev dktX0_four_1 : List UInt8 := dkwX0_four_1 ++ []
def dkwX0_four_0 : List UInt8 := [16, 24, 61, 28, 155, 0, 32, 42, 180, 0, 20, 42, 180, 0, 213, 27, 28, 122, 145, 84, 42, 89]
abbrev dktX0_four_0 : List UInt8 := dkwX0_four_0 ++ dktX0_four_1
theorem dksX0_four_0 : cX0_four.data.toList.drop 0 = dktX0_four_0 := by decide +kernel
theorem dksX0_four_1 : cX0_four.data.toList.drop 22 = dktX0_four_1 := dk_seg dksX0_four_0 22 rfl rfl
theorem dX0_four_0 : decode cX0_four 0 = .ok (.bipush 24, 2) := dk_16 24 (dk_at dksX0_four_0 0 rfl rfl)
theorem dX0_four_2 : decode cX0_four 2 = .ok (.istore_n 2, 1) := dk_61 (dk_at dksX0_four_0 2 rfl rfl)
theorem dX0_four_3 : decode cX0_four 3 = .ok (.iload_n 2, 1) := dk_28 (dk_at dksX0_four_0 3 rfl rfl)
theorem dX0_four_4 : decode cX0_four 4 = .ok (.ifCond .lt 32, 3) := dk_155 0 32 (dk_at dksX0_four_0 4 rfl rfl)
theorem dX0_four_7 : decode cX0_four 7 = .ok (.aload_n 0, 1) := dk_42 (dk_at dksX0_four_0 7 rfl rfl)
theorem dX0_four_8 : decode cX0_four 8 = .ok (.getfield 20, 3) := dk_180 0 20 (dk_at dksX0_four_0 8 rfl rfl)
theorem dX0_four_11 : decode cX0_four 11 = .ok (.aload_n 0, 1) := dk_42 (dk_at dksX0_four_0 11 rfl rfl)
theorem dX0_four_12 : decode cX0_four 12 = .ok (.getfield 213, 3) := dk_180 0 213 (dk_at dksX0_four_0 12 rfl rfl)
theorem dX0_four_15 : decode cX0_four 15 = .ok (.iload_n 1, 1) := dk_27 (dk_at dksX0_four_0 15 rfl rfl)
theorem dX0_four_16 : decode cX0_four 16 = .ok (.iload_n 2, 1) := dk_28 (dk_at dksX0_four_0 16 rfl rfl)
theorem dX0_four_17 : decode cX0_four 17 = .ok (.ishr, 1) := dk_122 (dk_at dksX0_four_0 17 rfl rfl)
theorem dX0_four_18 : decode cX0_four 18 = .ok (.i2b, 1) := dk_145 (dk_at dksX0_four_0 18 rfl rfl)
theorem dX0_four_19 : decode cX0_four 19 = .ok (.bastore, 1) := dk_84 (dk_at dksX0_four_0 19 rfl rfl)
theorem dX0_four_20 : decode cX0_four 20 = .ok (.aload_n 0, 1) := dk_42 (dk_at dksX0_four_0 20 rfl rfl)
theorem dX0_four_21 : decode cX0_four 21 = .ok (.dup, 1) := dk_89 (dk_at dksX0_four_0 21 rfl rfl)
theorem dX0_four_22 : decode cX0_four 22 = .ok (.getfield 213, 3) := dk_180 0 213 (dk_at dksX0_four_1 0 rfl rfl)
theorem dX0_four_25 : decode cX0_four 25 = .ok (.iconst 1, 1) := dk_4 (dk_at dksX0_four_1 3 rfl rfl)
theorem dX0_four_26 : decode cX0_four 26 = .ok (.iadd, 1) := dk_96 (dk_at dksX0_four_1 4 rfl rfl)
theorem dX0_four_27 : decode cX0_four 27 = .ok (.putfield 213, 3) := dk_181 0 213 (dk_at dksX0_four_1 5 rfl rfl)
theorem dX0_four_30 : decode cX0_four 30 = .ok (.iinc 2 (-8), 3) := dk_132 2 248 (dk_at dksX0_four_1 8 rfl rfl)
theorem dX0_four_33 : decode cX0_four 33 = .ok (.goto (-30), 3) := dk_167 255 226 (dk_at dksX0_four_1 11 rfl rfl)
theorem dX0_four_36 : decode cX0_four 36 = .ok (.return_, 1) := dk_177 (dk_at dksX0_four_1 14 rfl rfl)
def dkwX0_end_0 : List UInt8 := [27, 155, 0, 11, 27, 42, 180, 0, 213, 164, 0, 5, 2, 172, 42, 27, 181, 0, 213, 27, 172]
abbrev dktX0_end_0 : List UInt8 := dkwX0_end_0 ++ []
theorem dksX0_end_0 : cX0_end.data.toList.drop 0 = dktX0_end_0 := by decide +kernel
theorem dX0_end_0 : decode cX0_end 0 = .ok (.iload_n 1, 1) := dk_27 (dk_at dksX0_end_0 0 rfl rfl)
theorem dX0_end_1 : decode cX0_end 1 = .ok (.ifCond .lt 11, 3) := dk_155 0 11 (dk_at dksX0_end_0 1 rfl rfl)
theorem dX0_end_4 : decode cX0_end 4 = .ok (.iload_n 1, 1) := dk_27 (dk_at dksX0_end_0 4 rfl rfl)
theorem dX0_end_5 : decode cX0_end 5 = .ok (.aload_n 0, 1) := dk_42 (dk_at dksX0_end_0 5 rfl rfl)
theorem dX0_end_6 : decode cX0_end 6 = .ok (.getfield 213, 3) := dk_180 0 213 (dk_at dksX0_end_0 6 rfl rfl)
theorem dX0_end_9 : decode cX0_end 9 = .ok (.if_icmp .le 5, 3) := dk_164 0 5 (dk_at dksX0_end_0 9 rfl rfl)
theorem dX0_end_12 : decode cX0_end 12 = .ok (.iconst (-1), 1) := dk_2 (dk_at dksX0_end_0 12 rfl rfl)
theorem dX0_end_13 : decode cX0_end 13 = .ok (.ireturn, 1) := dk_172 (dk_at dksX0_end_0 13 rfl rfl)
theorem dX0_end_14 : decode cX0_end 14 = .ok (.aload_n 0, 1) := dk_42 (dk_at dksX0_end_0 14 rfl rfl)
theorem dX0_end_15 : decode cX0_end 15 = .ok (.iload_n 1, 1) := dk_27 (dk_at dksX0_end_0 15 rfl rfl)
theorem dX0_end_16 : decode cX0_end 16 = .ok (.putfield 213, 3) := dk_181 0 213 (dk_at dksX0_end_0 16 rfl rfl)
theorem dX0_end_19 : decode cX0_end 19 = .ok (.iload_n 1, 1) := dk_27 (dk_at dksX0_end_0 19 rfl rfl)
theorem dX0_end_20 : decode cX0_end 20 = .ok (.ireturn, 1) := dk_172 (dk_at dksX0_end_0 20 rfl rfl)
def dkwX0_order_5 : List UInt8 := [183, 1, 55, 182, 0, 178, 87, 42, 42, 180, 0, 10, 180, 1, 36, 182, 0, 148, 4, 100, 182, 0, 138, 172]
abbrev dktX0_order_5 : List UInt8 := dkwX0_order_5 ++ []
def dkwX0_order_4 : List UInt8 := [180, 1, 36, 187, 1, 50, 89, 42, 180, 0, 10, 180, 1, 36, 182, 0, 148, 27, 45, 180, 1, 52]
abbrev dktX0_order_4 : List UInt8 := dkwX0_order_4 ++ dktX0_order_5
def dkwX0_order_3 : List UInt8 := [180, 1, 49, 181, 0, 24, 42, 16, 250, 182, 0, 131, 172, 42, 2, 181, 0, 24, 42, 180, 0, 10]
abbrev dktX0_order_3 : List UInt8 := dkwX0_order_3 ++ dktX0_order_4
def dkwX0_order_2 : List UInt8 := [89, 42, 180, 0, 20, 28, 183, 1, 41, 78, 45, 182, 1, 44, 167, 0, 21, 58, 4, 42, 25, 4]
abbrev dktX0_order_2 : List UInt8 := dkwX0_order_2 ++ dktX0_order_3
def dkwX0_order_1 : List UInt8 := [180, 0, 10, 180, 1, 36, 182, 0, 148, 16, 20, 160, 0, 10, 42, 16, 251, 182, 0, 131, 172, 187, 1, 39]
abbrev dktX0_order_1 : List UInt8 := dkwX0_order_1 ++ dktX0_order_2
def dkwX0_order_0 : List UInt8 := [42, 180, 0, 213, 61, 42, 3, 181, 0, 213, 27, 184, 0, 201, 154, 0, 9, 42, 2, 182, 0, 131, 172, 42]
abbrev dktX0_order_0 : List UInt8 := dkwX0_order_0 ++ dktX0_order_1
theorem dksX0_order_0 : cX0_order.data.toList.drop 0 = dktX0_order_0 := by decide +kernel
theorem dksX0_order_1 : cX0_order.data.toList.drop 24 = dktX0_order_1 := dk_seg dksX0_order_0 24 rfl rfl
theorem dksX0_order_2 : cX0_order.data.toList.drop 48 = dktX0_order_2 := dk_seg dksX0_order_1 24 rfl rfl
theorem dksX0_order_3 : cX0_order.data.toList.drop 70 = dktX0_order_3 := dk_seg dksX0_order_2 22 rfl rfl
theorem dksX0_order_4 : cX0_order.data.toList.drop 92 = dktX0_order_4 := dk_seg dksX0_order_3 22 rfl rfl
theorem dksX0_order_5 : cX0_order.data.toList.drop 114 = dktX0_order_5 := dk_seg dksX0_order_4 22 rfl rfl
theorem dX0_order_0 : decode cX0_order 0 = .ok (.aload_n 0, 1) := dk_42 (dk_at dksX0_order_0 0 rfl rfl)
theorem dX0_order_1 : decode cX0_order 1 = .ok (.getfield 213, 3) := dk_180 0 213 (dk_at dksX0_order_0 1 rfl rfl)
theorem dX0_order_4 : decode cX0_order 4 = .ok (.istore_n 2, 1) := dk_61 (dk_at dksX0_order_0 4 rfl rfl)
theorem dX0_order_5 : decode cX0_order 5 = .ok (.aload_n 0, 1) := dk_42 (dk_at dksX0_order_0 5 rfl rfl)
theorem dX0_order_6 : decode cX0_order 6 = .ok (.iconst 0, 1) := dk_3 (dk_at dksX0_order_0 6 rfl rfl)
theorem dX0_order_7 : decode cX0_order 7 = .ok (.putfield 213, 3) := dk_181 0 213 (dk_at dksX0_order_0 7 rfl rfl)
theorem dX0_order_10 : decode cX0_order 10 = .ok (.iload_n 1, 1) := dk_27 (dk_at dksX0_order_0 10 rfl rfl)
theorem dX0_order_11 : decode cX0_order 11 = .ok (.invokestatic 201, 3) := dk_184 0 201 (dk_at dksX0_order_0 11 rfl rfl)
theorem dX0_order_14 : decode cX0_order 14 = .ok (.ifCond .ne 9, 3) := dk_154 0 9 (dk_at dksX0_order_0 14 rfl rfl)
theorem dX0_order_17 : decode cX0_order 17 = .ok (.aload_n 0, 1) := dk_42 (dk_at dksX0_order_0 17 rfl rfl)
theorem dX0_order_18 : decode cX0_order 18 = .ok (.iconst (-1), 1) := dk_2 (dk_at dksX0_order_0 18 rfl rfl)
theorem dX0_order_19 : decode cX0_order 19 = .ok (.invokevirtual 131, 3) := dk_182 0 131 (dk_at dksX0_order_0 19 rfl rfl)
theorem dX0_order_22 : decode cX0_order 22 = .ok (.ireturn, 1) := dk_172 (dk_at dksX0_order_0 22 rfl rfl)
theorem dX0_order_23 : decode cX0_order 23 = .ok (.aload_n 0, 1) := dk_42 (dk_at dksX0_order_0 23 rfl rfl)
theorem dX0_order_24 : decode cX0_order 24 = .ok (.getfield 10, 3) := dk_180 0 10 (dk_at dksX0_order_1 0 rfl rfl)
theorem dX0_order_27 : decode cX0_order 27 = .ok (.getfield 292, 3) := dk_180 1 36 (dk_at dksX0_order_1 3 rfl rfl)
theorem dX0_order_30 : decode cX0_order 30 = .ok (.invokevirtual 148, 3) := dk_182 0 148 (dk_at dksX0_order_1 6 rfl rfl)
theorem dX0_order_33 : decode cX0_order 33 = .ok (.bipush 20, 2) := dk_16 20 (dk_at dksX0_order_1 9 rfl rfl)
theorem dX0_order_35 : decode cX0_order 35 = .ok (.if_icmp .ne 10, 3) := dk_160 0 10 (dk_at dksX0_order_1 11 rfl rfl)
theorem dX0_order_38 : decode cX0_order 38 = .ok (.aload_n 0, 1) := dk_42 (dk_at dksX0_order_1 14 rfl rfl)
theorem dX0_order_39 : decode cX0_order 39 = .ok (.bipush (-5), 2) := dk_16 251 (dk_at dksX0_order_1 15 rfl rfl)
theorem dX0_order_41 : decode cX0_order 41 = .ok (.invokevirtual 131, 3) := dk_182 0 131 (dk_at dksX0_order_1 17 rfl rfl)
theorem dX0_order_44 : decode cX0_order 44 = .ok (.ireturn, 1) := dk_172 (dk_at dksX0_order_1 20 rfl rfl)
theorem dX0_order_45 : decode cX0_order 45 = .ok (.new 295, 3) := dk_187 1 39 (dk_at dksX0_order_1 21 rfl rfl)
theorem dX0_order_48 : decode cX0_order 48 = .ok (.dup, 1) := dk_89 (dk_at dksX0_order_2 0 rfl rfl)
theorem dX0_order_49 : decode cX0_order 49 = .ok (.aload_n 0, 1) := dk_42 (dk_at dksX0_order_2 1 rfl rfl)
theorem dX0_order_50 : decode cX0_order 50 = .ok (.getfield 20, 3) := dk_180 0 20 (dk_at dksX0_order_2 2 rfl rfl)
theorem dX0_order_53 : decode cX0_order 53 = .ok (.iload_n 2, 1) := dk_28 (dk_at dksX0_order_2 5 rfl rfl)
theorem dX0_order_54 : decode cX0_order 54 = .ok (.invokespecial 297, 3) := dk_183 1 41 (dk_at dksX0_order_2 6 rfl rfl)
theorem dX0_order_57 : decode cX0_order 57 = .ok (.astore_n 3, 1) := dk_78 (dk_at dksX0_order_2 9 rfl rfl)
theorem dX0_order_58 : decode cX0_order 58 = .ok (.aload_n 3, 1) := dk_45 (dk_at dksX0_order_2 10 rfl rfl)
theorem dX0_order_59 : decode cX0_order 59 = .ok (.invokevirtual 300, 3) := dk_182 1 44 (dk_at dksX0_order_2 11 rfl rfl)
theorem dX0_order_62 : decode cX0_order 62 = .ok (.goto 21, 3) := dk_167 0 21 (dk_at dksX0_order_2 14 rfl rfl)
theorem dX0_order_65 : decode cX0_order 65 = .ok (.astore 4, 2) := dk_58 4 (dk_at dksX0_order_2 17 rfl rfl)
theorem dX0_order_67 : decode cX0_order 67 = .ok (.aload_n 0, 1) := dk_42 (dk_at dksX0_order_2 19 rfl rfl)
theorem dX0_order_68 : decode cX0_order 68 = .ok (.aload 4, 2) := dk_25 4 (dk_at dksX0_order_2 20 rfl rfl)
theorem dX0_order_70 : decode cX0_order 70 = .ok (.getfield 305, 3) := dk_180 1 49 (dk_at dksX0_order_3 0 rfl rfl)
theorem dX0_order_73 : decode cX0_order 73 = .ok (.putfield 24, 3) := dk_181 0 24 (dk_at dksX0_order_3 3 rfl rfl)
theorem dX0_order_76 : decode cX0_order 76 = .ok (.aload_n 0, 1) := dk_42 (dk_at dksX0_order_3 6 rfl rfl)
theorem dX0_order_77 : decode cX0_order 77 = .ok (.bipush (-6), 2) := dk_16 250 (dk_at dksX0_order_3 7 rfl rfl)
theorem dX0_order_79 : decode cX0_order 79 = .ok (.invokevirtual 131, 3) := dk_182 0 131 (dk_at dksX0_order_3 9 rfl rfl)
theorem dX0_order_82 : decode cX0_order 82 = .ok (.ireturn, 1) := dk_172 (dk_at dksX0_order_3 12 rfl rfl)
theorem dX0_order_83 : decode cX0_order 83 = .ok (.aload_n 0, 1) := dk_42 (dk_at dksX0_order_3 13 rfl rfl)
theorem dX0_order_84 : decode cX0_order 84 = .ok (.iconst (-1), 1) := dk_2 (dk_at dksX0_order_3 14 rfl rfl)
theorem dX0_order_85 : decode cX0_order 85 = .ok (.putfield 24, 3) := dk_181 0 24 (dk_at dksX0_order_3 15 rfl rfl)
theorem dX0_order_88 : decode cX0_order 88 = .ok (.aload_n 0, 1) := dk_42 (dk_at dksX0_order_3 18 rfl rfl)
theorem dX0_order_89 : decode cX0_order 89 = .ok (.getfield 10, 3) := dk_180 0 10 (dk_at dksX0_order_3 19 rfl rfl)
theorem dX0_order_92 : decode cX0_order 92 = .ok (.getfield 292, 3) := dk_180 1 36 (dk_at dksX0_order_4 0 rfl rfl)
theorem dX0_order_95 : decode cX0_order 95 = .ok (.new 306, 3) := dk_187 1 50 (dk_at dksX0_order_4 3 rfl rfl)
theorem dX0_order_98 : decode cX0_order 98 = .ok (.dup, 1) := dk_89 (dk_at dksX0_order_4 6 rfl rfl)
theorem dX0_order_99 : decode cX0_order 99 = .ok (.aload_n 0, 1) := dk_42 (dk_at dksX0_order_4 7 rfl rfl)
theorem dX0_order_100 : decode cX0_order 100 = .ok (.getfield 10, 3) := dk_180 0 10 (dk_at dksX0_order_4 8 rfl rfl)
theorem dX0_order_103 : decode cX0_order 103 = .ok (.getfield 292, 3) := dk_180 1 36 (dk_at dksX0_order_4 11 rfl rfl)
theorem dX0_order_106 : decode cX0_order 106 = .ok (.invokevirtual 148, 3) := dk_182 0 148 (dk_at dksX0_order_4 14 rfl rfl)
theorem dX0_order_109 : decode cX0_order 109 = .ok (.iload_n 1, 1) := dk_27 (dk_at dksX0_order_4 17 rfl rfl)
theorem dX0_order_110 : decode cX0_order 110 = .ok (.aload_n 3, 1) := dk_45 (dk_at dksX0_order_4 18 rfl rfl)
theorem dX0_order_111 : decode cX0_order 111 = .ok (.getfield 308, 3) := dk_180 1 52 (dk_at dksX0_order_4 19 rfl rfl)
theorem dX0_order_114 : decode cX0_order 114 = .ok (.invokespecial 311, 3) := dk_183 1 55 (dk_at dksX0_order_5 0 rfl rfl)
theorem dX0_order_117 : decode cX0_order 117 = .ok (.invokevirtual 178, 3) := dk_182 0 178 (dk_at dksX0_order_5 3 rfl rfl)
theorem dX0_order_120 : decode cX0_order 120 = .ok (.pop, 1) := dk_87 (dk_at dksX0_order_5 6 rfl rfl)
theorem dX0_order_121 : decode cX0_order 121 = .ok (.aload_n 0, 1) := dk_42 (dk_at dksX0_order_5 7 rfl rfl)
theorem dX0_order_122 : decode cX0_order 122 = .ok (.aload_n 0, 1) := dk_42 (dk_at dksX0_order_5 8 rfl rfl)
theorem dX0_order_123 : decode cX0_order 123 = .ok (.getfield 10, 3) := dk_180 0 10 (dk_at dksX0_order_5 9 rfl rfl)
theorem dX0_order_126 : decode cX0_order 126 = .ok (.getfield 292, 3) := dk_180 1 36 (dk_at dksX0_order_5 12 rfl rfl)
theorem dX0_order_129 : decode cX0_order 129 = .ok (.invokevirtual 148, 3) := dk_182 0 148 (dk_at dksX0_order_5 15 rfl rfl)
theorem dX0_order_132 : decode cX0_order 132 = .ok (.iconst 1, 1) := dk_4 (dk_at dksX0_order_5 18 rfl rfl)
theorem dX0_order_133 : decode cX0_order 133 = .ok (.isub, 1) := dk_100 (dk_at dksX0_order_5 19 rfl rfl)
theorem dX0_order_134 : decode cX0_order 134 = .ok (.invokevirtual 138, 3) := dk_182 0 138 (dk_at dksX0_order_5 20 rfl rfl)
theorem dX0_order_137 : decode cX0_order 137 = .ok (.ireturn, 1) := dk_172 (dk_at dksX0_order_5 23 rfl rfl)
theorem dX0_fault_0 : decode cX0_fault 0 = .ok (.aload_n 0, 1) := by decide +kernel
theorem dX0_fault_1 : decode cX0_fault 1 = .ok (.getfield 24, 3) := by decide +kernel
theorem dX0_fault_4 : decode cX0_fault 4 = .ok (.ireturn, 1) := by decide +kernel
def dkwX0_force_3 : List UInt8 := [180, 1, 64, 16, 12, 27, 104, 28, 96, 51, 153, 0, 7, 4, 167, 0, 4, 3, 172]
abbrev dktX0_force_3 : List UInt8 := dkwX0_force_3 ++ []
def dkwX0_force_2 : List UInt8 := [153, 0, 10, 29, 184, 0, 201, 154, 0, 5, 2, 172, 42, 180, 0, 33, 29, 182, 1, 61, 42, 180, 0, 33]
abbrev dktX0_force_2 : List UInt8 := dkwX0_force_2 ++ dktX0_force_3
def dkwX0_force_1 : List UInt8 := [180, 0, 10, 180, 1, 36, 27, 182, 0, 232, 192, 1, 50, 180, 1, 58, 182, 0, 148, 4, 100, 184, 0, 127]
abbrev dktX0_force_1 : List UInt8 := dkwX0_force_1 ++ dktX0_force_2
def dkwX0_force_0 : List UInt8 := [27, 3, 42, 180, 0, 10, 180, 1, 36, 182, 0, 148, 4, 100, 184, 0, 127, 153, 0, 40, 28, 3, 42]
abbrev dktX0_force_0 : List UInt8 := dkwX0_force_0 ++ dktX0_force_1
theorem dksX0_force_0 : cX0_force.data.toList.drop 0 = dktX0_force_0 := by decide +kernel
theorem dksX0_force_1 : cX0_force.data.toList.drop 23 = dktX0_force_1 := dk_seg dksX0_force_0 23 rfl rfl
theorem dksX0_force_2 : cX0_force.data.toList.drop 47 = dktX0_force_2 := dk_seg dksX0_force_1 24 rfl rfl
theorem dksX0_force_3 : cX0_force.data.toList.drop 71 = dktX0_force_3 := dk_seg dksX0_force_2 24 rfl rfl
theorem dX0_force_0 : decode cX0_force 0 = .ok (.iload_n 1, 1) := dk_27 (dk_at dksX0_force_0 0 rfl rfl)
theorem dX0_force_1 : decode cX0_force 1 = .ok (.iconst 0, 1) := dk_3 (dk_at dksX0_force_0 1 rfl rfl)
theorem dX0_force_2 : decode cX0_force 2 = .ok (.aload_n 0, 1) := dk_42 (dk_at dksX0_force_0 2 rfl rfl)
theorem dX0_force_3 : decode cX0_force 3 = .ok (.getfield 10, 3) := dk_180 0 10 (dk_at dksX0_force_0 3 rfl rfl)
theorem dX0_force_6 : decode cX0_force 6 = .ok (.getfield 292, 3) := dk_180 1 36 (dk_at dksX0_force_0 6 rfl rfl)
theorem dX0_force_9 : decode cX0_force 9 = .ok (.invokevirtual 148, 3) := dk_182 0 148 (dk_at dksX0_force_0 9 rfl rfl)
theorem dX0_force_12 : decode cX0_force 12 = .ok (.iconst 1, 1) := dk_4 (dk_at dksX0_force_0 12 rfl rfl)
theorem dX0_force_13 : decode cX0_force 13 = .ok (.isub, 1) := dk_100 (dk_at dksX0_force_0 13 rfl rfl)
theorem dX0_force_14 : decode cX0_force 14 = .ok (.invokestatic 127, 3) := dk_184 0 127 (dk_at dksX0_force_0 14 rfl rfl)
theorem dX0_force_17 : decode cX0_force 17 = .ok (.ifCond .eq 40, 3) := dk_153 0 40 (dk_at dksX0_force_0 17 rfl rfl)
theorem dX0_force_20 : decode cX0_force 20 = .ok (.iload_n 2, 1) := dk_28 (dk_at dksX0_force_0 20 rfl rfl)
theorem dX0_force_21 : decode cX0_force 21 = .ok (.iconst 0, 1) := dk_3 (dk_at dksX0_force_0 21 rfl rfl)
theorem dX0_force_22 : decode cX0_force 22 = .ok (.aload_n 0, 1) := dk_42 (dk_at dksX0_force_0 22 rfl rfl)
theorem dX0_force_23 : decode cX0_force 23 = .ok (.getfield 10, 3) := dk_180 0 10 (dk_at dksX0_force_1 0 rfl rfl)
theorem dX0_force_26 : decode cX0_force 26 = .ok (.getfield 292, 3) := dk_180 1 36 (dk_at dksX0_force_1 3 rfl rfl)
theorem dX0_force_29 : decode cX0_force 29 = .ok (.iload_n 1, 1) := dk_27 (dk_at dksX0_force_1 6 rfl rfl)
theorem dX0_force_30 : decode cX0_force 30 = .ok (.invokevirtual 232, 3) := dk_182 0 232 (dk_at dksX0_force_1 7 rfl rfl)
theorem dX0_force_33 : decode cX0_force 33 = .ok (.checkcast 306, 3) := dk_192 1 50 (dk_at dksX0_force_1 10 rfl rfl)
theorem dX0_force_36 : decode cX0_force 36 = .ok (.getfield 314, 3) := dk_180 1 58 (dk_at dksX0_force_1 13 rfl rfl)
theorem dX0_force_39 : decode cX0_force 39 = .ok (.invokevirtual 148, 3) := dk_182 0 148 (dk_at dksX0_force_1 16 rfl rfl)
theorem dX0_force_42 : decode cX0_force 42 = .ok (.iconst 1, 1) := dk_4 (dk_at dksX0_force_1 19 rfl rfl)
theorem dX0_force_43 : decode cX0_force 43 = .ok (.isub, 1) := dk_100 (dk_at dksX0_force_1 20 rfl rfl)
theorem dX0_force_44 : decode cX0_force 44 = .ok (.invokestatic 127, 3) := dk_184 0 127 (dk_at dksX0_force_1 21 rfl rfl)
theorem dX0_force_47 : decode cX0_force 47 = .ok (.ifCond .eq 10, 3) := dk_153 0 10 (dk_at dksX0_force_2 0 rfl rfl)
theorem dX0_force_50 : decode cX0_force 50 = .ok (.iload_n 3, 1) := dk_29 (dk_at dksX0_force_2 3 rfl rfl)
theorem dX0_force_51 : decode cX0_force 51 = .ok (.invokestatic 201, 3) := dk_184 0 201 (dk_at dksX0_force_2 4 rfl rfl)
theorem dX0_force_54 : decode cX0_force 54 = .ok (.ifCond .ne 5, 3) := dk_154 0 5 (dk_at dksX0_force_2 7 rfl rfl)
theorem dX0_force_57 : decode cX0_force 57 = .ok (.iconst (-1), 1) := dk_2 (dk_at dksX0_force_2 10 rfl rfl)
theorem dX0_force_58 : decode cX0_force 58 = .ok (.ireturn, 1) := dk_172 (dk_at dksX0_force_2 11 rfl rfl)
theorem dX0_force_59 : decode cX0_force 59 = .ok (.aload_n 0, 1) := dk_42 (dk_at dksX0_force_2 12 rfl rfl)
theorem dX0_force_60 : decode cX0_force 60 = .ok (.getfield 33, 3) := dk_180 0 33 (dk_at dksX0_force_2 13 rfl rfl)
theorem dX0_force_63 : decode cX0_force 63 = .ok (.iload_n 3, 1) := dk_29 (dk_at dksX0_force_2 16 rfl rfl)
theorem dX0_force_64 : decode cX0_force 64 = .ok (.invokevirtual 317, 3) := dk_182 1 61 (dk_at dksX0_force_2 17 rfl rfl)
theorem dX0_force_67 : decode cX0_force 67 = .ok (.aload_n 0, 1) := dk_42 (dk_at dksX0_force_2 20 rfl rfl)
theorem dX0_force_68 : decode cX0_force 68 = .ok (.getfield 33, 3) := dk_180 0 33 (dk_at dksX0_force_2 21 rfl rfl)
theorem dX0_force_71 : decode cX0_force 71 = .ok (.getfield 320, 3) := dk_180 1 64 (dk_at dksX0_force_3 0 rfl rfl)
theorem dX0_force_74 : decode cX0_force 74 = .ok (.bipush 12, 2) := dk_16 12 (dk_at dksX0_force_3 3 rfl rfl)
theorem dX0_force_76 : decode cX0_force 76 = .ok (.iload_n 1, 1) := dk_27 (dk_at dksX0_force_3 5 rfl rfl)
theorem dX0_force_77 : decode cX0_force 77 = .ok (.imul, 1) := dk_104 (dk_at dksX0_force_3 6 rfl rfl)
theorem dX0_force_78 : decode cX0_force 78 = .ok (.iload_n 2, 1) := dk_28 (dk_at dksX0_force_3 7 rfl rfl)
theorem dX0_force_79 : decode cX0_force 79 = .ok (.iadd, 1) := dk_96 (dk_at dksX0_force_3 8 rfl rfl)
theorem dX0_force_80 : decode cX0_force 80 = .ok (.baload, 1) := dk_51 (dk_at dksX0_force_3 9 rfl rfl)
theorem dX0_force_81 : decode cX0_force 81 = .ok (.ifCond .eq 7, 3) := dk_153 0 7 (dk_at dksX0_force_3 10 rfl rfl)
theorem dX0_force_84 : decode cX0_force 84 = .ok (.iconst 1, 1) := dk_4 (dk_at dksX0_force_3 13 rfl rfl)
theorem dX0_force_85 : decode cX0_force 85 = .ok (.goto 4, 3) := dk_167 0 4 (dk_at dksX0_force_3 14 rfl rfl)
theorem dX0_force_88 : decode cX0_force 88 = .ok (.iconst 0, 1) := dk_3 (dk_at dksX0_force_3 17 rfl rfl)
theorem dX0_force_89 : decode cX0_force 89 = .ok (.ireturn, 1) := dk_172 (dk_at dksX0_force_3 18 rfl rfl)
def dkwX0_on_2 : List UInt8 := [167, 0, 4, 3, 172]
abbrev dktX0_on_2 : List UInt8 := dkwX0_on_2 ++ []
def dkwX0_on_1 : List UInt8 := [42, 180, 0, 47, 28, 29, 182, 1, 91, 42, 180, 0, 47, 180, 1, 94, 27, 51, 153, 0, 7, 4]
abbrev dktX0_on_1 : List UInt8 := dkwX0_on_1 ++ dktX0_on_2
def dkwX0_on_0 : List UInt8 := [42, 27, 182, 0, 226, 153, 0, 17, 28, 184, 0, 201, 153, 0, 10, 29, 184, 0, 201, 154, 0, 5, 2, 172]
abbrev dktX0_on_0 : List UInt8 := dkwX0_on_0 ++ dktX0_on_1
theorem dksX0_on_0 : cX0_on.data.toList.drop 0 = dktX0_on_0 := by decide +kernel
theorem dksX0_on_1 : cX0_on.data.toList.drop 24 = dktX0_on_1 := dk_seg dksX0_on_0 24 rfl rfl
theorem dksX0_on_2 : cX0_on.data.toList.drop 46 = dktX0_on_2 := dk_seg dksX0_on_1 22 rfl rfl
theorem dX0_on_0 : decode cX0_on 0 = .ok (.aload_n 0, 1) := dk_42 (dk_at dksX0_on_0 0 rfl rfl)
theorem dX0_on_1 : decode cX0_on 1 = .ok (.iload_n 1, 1) := dk_27 (dk_at dksX0_on_0 1 rfl rfl)
theorem dX0_on_2 : decode cX0_on 2 = .ok (.invokevirtual 226, 3) := dk_182 0 226 (dk_at dksX0_on_0 2 rfl rfl)
theorem dX0_on_5 : decode cX0_on 5 = .ok (.ifCond .eq 17, 3) := dk_153 0 17 (dk_at dksX0_on_0 5 rfl rfl)
theorem dX0_on_8 : decode cX0_on 8 = .ok (.iload_n 2, 1) := dk_28 (dk_at dksX0_on_0 8 rfl rfl)
theorem dX0_on_9 : decode cX0_on 9 = .ok (.invokestatic 201, 3) := dk_184 0 201 (dk_at dksX0_on_0 9 rfl rfl)
theorem dX0_on_12 : decode cX0_on 12 = .ok (.ifCond .eq 10, 3) := dk_153 0 10 (dk_at dksX0_on_0 12 rfl rfl)
theorem dX0_on_15 : decode cX0_on 15 = .ok (.iload_n 3, 1) := dk_29 (dk_at dksX0_on_0 15 rfl rfl)
theorem dX0_on_16 : decode cX0_on 16 = .ok (.invokestatic 201, 3) := dk_184 0 201 (dk_at dksX0_on_0 16 rfl rfl)
theorem dX0_on_19 : decode cX0_on 19 = .ok (.ifCond .ne 5, 3) := dk_154 0 5 (dk_at dksX0_on_0 19 rfl rfl)
theorem dX0_on_22 : decode cX0_on 22 = .ok (.iconst (-1), 1) := dk_2 (dk_at dksX0_on_0 22 rfl rfl)
theorem dX0_on_23 : decode cX0_on 23 = .ok (.ireturn, 1) := dk_172 (dk_at dksX0_on_0 23 rfl rfl)
theorem dX0_on_24 : decode cX0_on 24 = .ok (.aload_n 0, 1) := dk_42 (dk_at dksX0_on_1 0 rfl rfl)
theorem dX0_on_25 : decode cX0_on 25 = .ok (.getfield 47, 3) := dk_180 0 47 (dk_at dksX0_on_1 1 rfl rfl)
theorem dX0_on_28 : decode cX0_on 28 = .ok (.iload_n 2, 1) := dk_28 (dk_at dksX0_on_1 4 rfl rfl)
theorem dX0_on_29 : decode cX0_on 29 = .ok (.iload_n 3, 1) := dk_29 (dk_at dksX0_on_1 5 rfl rfl)
theorem dX0_on_30 : decode cX0_on 30 = .ok (.invokevirtual 347, 3) := dk_182 1 91 (dk_at dksX0_on_1 6 rfl rfl)
theorem dX0_on_33 : decode cX0_on 33 = .ok (.aload_n 0, 1) := dk_42 (dk_at dksX0_on_1 9 rfl rfl)
theorem dX0_on_34 : decode cX0_on 34 = .ok (.getfield 47, 3) := dk_180 0 47 (dk_at dksX0_on_1 10 rfl rfl)
theorem dX0_on_37 : decode cX0_on 37 = .ok (.getfield 350, 3) := dk_180 1 94 (dk_at dksX0_on_1 13 rfl rfl)
theorem dX0_on_40 : decode cX0_on 40 = .ok (.iload_n 1, 1) := dk_27 (dk_at dksX0_on_1 16 rfl rfl)
theorem dX0_on_41 : decode cX0_on 41 = .ok (.baload, 1) := dk_51 (dk_at dksX0_on_1 17 rfl rfl)
theorem dX0_on_42 : decode cX0_on 42 = .ok (.ifCond .eq 7, 3) := dk_153 0 7 (dk_at dksX0_on_1 18 rfl rfl)
theorem dX0_on_45 : decode cX0_on 45 = .ok (.iconst 1, 1) := dk_4 (dk_at dksX0_on_1 21 rfl rfl)
theorem dX0_on_46 : decode cX0_on 46 = .ok (.goto 4, 3) := dk_167 0 4 (dk_at dksX0_on_2 0 rfl rfl)
theorem dX0_on_49 : decode cX0_on 49 = .ok (.iconst 0, 1) := dk_3 (dk_at dksX0_on_2 3 rfl rfl)
theorem dX0_on_50 : decode cX0_on 50 = .ok (.ireturn, 1) := dk_172 (dk_at dksX0_on_2 4 rfl rfl)
def dkwX0_asks_0 : List UInt8 := [42, 180, 0, 40, 182, 1, 79, 42, 180, 0, 40, 180, 1, 82, 7, 27, 133, 80, 177]
abbrev dktX0_asks_0 : List UInt8 := dkwX0_asks_0 ++ []
theorem dksX0_asks_0 : cX0_asks.data.toList.drop 0 = dktX0_asks_0 := by decide +kernel
theorem dX0_asks_0 : decode cX0_asks 0 = .ok (.aload_n 0, 1) := dk_42 (dk_at dksX0_asks_0 0 rfl rfl)
theorem dX0_asks_1 : decode cX0_asks 1 = .ok (.getfield 40, 3) := dk_180 0 40 (dk_at dksX0_asks_0 1 rfl rfl)
theorem dX0_asks_4 : decode cX0_asks 4 = .ok (.invokevirtual 335, 3) := dk_182 1 79 (dk_at dksX0_asks_0 4 rfl rfl)
theorem dX0_asks_7 : decode cX0_asks 7 = .ok (.aload_n 0, 1) := dk_42 (dk_at dksX0_asks_0 7 rfl rfl)
theorem dX0_asks_8 : decode cX0_asks 8 = .ok (.getfield 40, 3) := dk_180 0 40 (dk_at dksX0_asks_0 8 rfl rfl)
theorem dX0_asks_11 : decode cX0_asks 11 = .ok (.getfield 338, 3) := dk_180 1 82 (dk_at dksX0_asks_0 11 rfl rfl)
theorem dX0_asks_14 : decode cX0_asks 14 = .ok (.iconst 4, 1) := dk_7 (dk_at dksX0_asks_0 14 rfl rfl)
theorem dX0_asks_15 : decode cX0_asks 15 = .ok (.iload_n 1, 1) := dk_27 (dk_at dksX0_asks_0 15 rfl rfl)
theorem dX0_asks_16 : decode cX0_asks 16 = .ok (.i2l, 1) := dk_133 (dk_at dksX0_asks_0 16 rfl rfl)
theorem dX0_asks_17 : decode cX0_asks 17 = .ok (.lastore, 1) := dk_80 (dk_at dksX0_asks_0 17 rfl rfl)
theorem dX0_asks_18 : decode cX0_asks 18 = .ok (.return_, 1) := dk_177 (dk_at dksX0_asks_0 18 rfl rfl)
def dkwX0_last_7 : List UInt8 := [167, 255, 111, 22, 4, 173]
abbrev dktX0_last_7 : List UInt8 := dkwX0_last_7 ++ []
def dkwX0_last_6 : List UInt8 := [55, 9, 22, 9, 20, 1, 68, 148, 153, 0, 7, 22, 9, 55, 4, 132, 8, 1, 167, 255, 155, 132, 6, 1]
abbrev dktX0_last_6 : List UInt8 := dkwX0_last_6 ++ dktX0_last_7
def dkwX0_last_5 : List UInt8 := [159, 0, 6, 167, 0, 35, 25, 7, 21, 8, 182, 0, 232, 192, 1, 70, 42, 180, 0, 40, 182, 1, 75]
abbrev dktX0_last_5 : List UInt8 := dkwX0_last_5 ++ dktX0_last_6
def dkwX0_last_4 : List UInt8 := [192, 1, 70, 180, 1, 72, 27, 160, 0, 55, 25, 7, 21, 8, 182, 0, 232, 192, 1, 70, 180, 1, 74, 28]
abbrev dktX0_last_4 : List UInt8 := dkwX0_last_4 ++ dktX0_last_5
def dkwX0_last_3 : List UInt8 := [180, 1, 64, 16, 12, 21, 6, 104, 21, 8, 96, 51, 153, 0, 72, 25, 7, 21, 8, 182, 0, 232]
abbrev dktX0_last_3 : List UInt8 := dkwX0_last_3 ++ dktX0_last_4
def dkwX0_last_2 : List UInt8 := [180, 1, 58, 58, 7, 3, 54, 8, 21, 8, 25, 7, 182, 0, 148, 162, 0, 97, 42, 180, 0, 33]
abbrev dktX0_last_2 : List UInt8 := dkwX0_last_2 ++ dktX0_last_3
def dkwX0_last_1 : List UInt8 := [180, 1, 36, 182, 0, 148, 162, 0, 136, 42, 180, 0, 10, 180, 1, 36, 21, 6, 182, 0, 232, 192, 1, 50]
abbrev dktX0_last_1 : List UInt8 := dkwX0_last_1 ++ dktX0_last_2
def dkwX0_last_0 : List UInt8 := [42, 180, 0, 33, 29, 182, 1, 61, 20, 1, 68, 55, 4, 3, 54, 6, 21, 6, 42, 180, 0, 10]
abbrev dktX0_last_0 : List UInt8 := dkwX0_last_0 ++ dktX0_last_1
theorem dksX0_last_0 : cX0_last.data.toList.drop 0 = dktX0_last_0 := by decide +kernel
theorem dksX0_last_1 : cX0_last.data.toList.drop 22 = dktX0_last_1 := dk_seg dksX0_last_0 22 rfl rfl
theorem dksX0_last_2 : cX0_last.data.toList.drop 46 = dktX0_last_2 := dk_seg dksX0_last_1 24 rfl rfl
theorem dksX0_last_3 : cX0_last.data.toList.drop 68 = dktX0_last_3 := dk_seg dksX0_last_2 22 rfl rfl
theorem dksX0_last_4 : cX0_last.data.toList.drop 90 = dktX0_last_4 := dk_seg dksX0_last_3 22 rfl rfl
theorem dksX0_last_5 : cX0_last.data.toList.drop 114 = dktX0_last_5 := dk_seg dksX0_last_4 24 rfl rfl
theorem dksX0_last_6 : cX0_last.data.toList.drop 137 = dktX0_last_6 := dk_seg dksX0_last_5 23 rfl rfl
theorem dksX0_last_7 : cX0_last.data.toList.drop 161 = dktX0_last_7 := dk_seg dksX0_last_6 24 rfl rfl
theorem dX0_last_0 : decode cX0_last 0 = .ok (.aload_n 0, 1) := dk_42 (dk_at dksX0_last_0 0 rfl rfl)
theorem dX0_last_1 : decode cX0_last 1 = .ok (.getfield 33, 3) := dk_180 0 33 (dk_at dksX0_last_0 1 rfl rfl)
theorem dX0_last_4 : decode cX0_last 4 = .ok (.iload_n 3, 1) := dk_29 (dk_at dksX0_last_0 4 rfl rfl)
theorem dX0_last_5 : decode cX0_last 5 = .ok (.invokevirtual 317, 3) := dk_182 1 61 (dk_at dksX0_last_0 5 rfl rfl)
theorem dX0_last_8 : decode cX0_last 8 = .ok (.ldc2_w 324, 3) := dk_20 1 68 (dk_at dksX0_last_0 8 rfl rfl)
theorem dX0_last_11 : decode cX0_last 11 = .ok (.lstore 4, 2) := dk_55 4 (dk_at dksX0_last_0 11 rfl rfl)
theorem dX0_last_13 : decode cX0_last 13 = .ok (.iconst 0, 1) := dk_3 (dk_at dksX0_last_0 13 rfl rfl)
theorem dX0_last_14 : decode cX0_last 14 = .ok (.istore 6, 2) := dk_54 6 (dk_at dksX0_last_0 14 rfl rfl)
theorem dX0_last_16 : decode cX0_last 16 = .ok (.iload 6, 2) := dk_21 6 (dk_at dksX0_last_0 16 rfl rfl)
theorem dX0_last_18 : decode cX0_last 18 = .ok (.aload_n 0, 1) := dk_42 (dk_at dksX0_last_0 18 rfl rfl)
theorem dX0_last_19 : decode cX0_last 19 = .ok (.getfield 10, 3) := dk_180 0 10 (dk_at dksX0_last_0 19 rfl rfl)
theorem dX0_last_22 : decode cX0_last 22 = .ok (.getfield 292, 3) := dk_180 1 36 (dk_at dksX0_last_1 0 rfl rfl)
theorem dX0_last_25 : decode cX0_last 25 = .ok (.invokevirtual 148, 3) := dk_182 0 148 (dk_at dksX0_last_1 3 rfl rfl)
theorem dX0_last_28 : decode cX0_last 28 = .ok (.if_icmp .ge 136, 3) := dk_162 0 136 (dk_at dksX0_last_1 6 rfl rfl)
theorem dX0_last_31 : decode cX0_last 31 = .ok (.aload_n 0, 1) := dk_42 (dk_at dksX0_last_1 9 rfl rfl)
theorem dX0_last_32 : decode cX0_last 32 = .ok (.getfield 10, 3) := dk_180 0 10 (dk_at dksX0_last_1 10 rfl rfl)
theorem dX0_last_35 : decode cX0_last 35 = .ok (.getfield 292, 3) := dk_180 1 36 (dk_at dksX0_last_1 13 rfl rfl)
theorem dX0_last_38 : decode cX0_last 38 = .ok (.iload 6, 2) := dk_21 6 (dk_at dksX0_last_1 16 rfl rfl)
theorem dX0_last_40 : decode cX0_last 40 = .ok (.invokevirtual 232, 3) := dk_182 0 232 (dk_at dksX0_last_1 18 rfl rfl)
theorem dX0_last_43 : decode cX0_last 43 = .ok (.checkcast 306, 3) := dk_192 1 50 (dk_at dksX0_last_1 21 rfl rfl)
theorem dX0_last_46 : decode cX0_last 46 = .ok (.getfield 314, 3) := dk_180 1 58 (dk_at dksX0_last_2 0 rfl rfl)
theorem dX0_last_49 : decode cX0_last 49 = .ok (.astore 7, 2) := dk_58 7 (dk_at dksX0_last_2 3 rfl rfl)
theorem dX0_last_51 : decode cX0_last 51 = .ok (.iconst 0, 1) := dk_3 (dk_at dksX0_last_2 5 rfl rfl)
theorem dX0_last_52 : decode cX0_last 52 = .ok (.istore 8, 2) := dk_54 8 (dk_at dksX0_last_2 6 rfl rfl)
theorem dX0_last_54 : decode cX0_last 54 = .ok (.iload 8, 2) := dk_21 8 (dk_at dksX0_last_2 8 rfl rfl)
theorem dX0_last_56 : decode cX0_last 56 = .ok (.aload 7, 2) := dk_25 7 (dk_at dksX0_last_2 10 rfl rfl)
theorem dX0_last_58 : decode cX0_last 58 = .ok (.invokevirtual 148, 3) := dk_182 0 148 (dk_at dksX0_last_2 12 rfl rfl)
theorem dX0_last_61 : decode cX0_last 61 = .ok (.if_icmp .ge 97, 3) := dk_162 0 97 (dk_at dksX0_last_2 15 rfl rfl)
theorem dX0_last_64 : decode cX0_last 64 = .ok (.aload_n 0, 1) := dk_42 (dk_at dksX0_last_2 18 rfl rfl)
theorem dX0_last_65 : decode cX0_last 65 = .ok (.getfield 33, 3) := dk_180 0 33 (dk_at dksX0_last_2 19 rfl rfl)
theorem dX0_last_68 : decode cX0_last 68 = .ok (.getfield 320, 3) := dk_180 1 64 (dk_at dksX0_last_3 0 rfl rfl)
theorem dX0_last_71 : decode cX0_last 71 = .ok (.bipush 12, 2) := dk_16 12 (dk_at dksX0_last_3 3 rfl rfl)
theorem dX0_last_73 : decode cX0_last 73 = .ok (.iload 6, 2) := dk_21 6 (dk_at dksX0_last_3 5 rfl rfl)
theorem dX0_last_75 : decode cX0_last 75 = .ok (.imul, 1) := dk_104 (dk_at dksX0_last_3 7 rfl rfl)
theorem dX0_last_76 : decode cX0_last 76 = .ok (.iload 8, 2) := dk_21 8 (dk_at dksX0_last_3 8 rfl rfl)
theorem dX0_last_78 : decode cX0_last 78 = .ok (.iadd, 1) := dk_96 (dk_at dksX0_last_3 10 rfl rfl)
theorem dX0_last_79 : decode cX0_last 79 = .ok (.baload, 1) := dk_51 (dk_at dksX0_last_3 11 rfl rfl)
theorem dX0_last_80 : decode cX0_last 80 = .ok (.ifCond .eq 72, 3) := dk_153 0 72 (dk_at dksX0_last_3 12 rfl rfl)
theorem dX0_last_83 : decode cX0_last 83 = .ok (.aload 7, 2) := dk_25 7 (dk_at dksX0_last_3 15 rfl rfl)
theorem dX0_last_85 : decode cX0_last 85 = .ok (.iload 8, 2) := dk_21 8 (dk_at dksX0_last_3 17 rfl rfl)
theorem dX0_last_87 : decode cX0_last 87 = .ok (.invokevirtual 232, 3) := dk_182 0 232 (dk_at dksX0_last_3 19 rfl rfl)
theorem dX0_last_90 : decode cX0_last 90 = .ok (.checkcast 326, 3) := dk_192 1 70 (dk_at dksX0_last_4 0 rfl rfl)
theorem dX0_last_93 : decode cX0_last 93 = .ok (.getfield 328, 3) := dk_180 1 72 (dk_at dksX0_last_4 3 rfl rfl)
theorem dX0_last_96 : decode cX0_last 96 = .ok (.iload_n 1, 1) := dk_27 (dk_at dksX0_last_4 6 rfl rfl)
theorem dX0_last_97 : decode cX0_last 97 = .ok (.if_icmp .ne 55, 3) := dk_160 0 55 (dk_at dksX0_last_4 7 rfl rfl)
theorem dX0_last_100 : decode cX0_last 100 = .ok (.aload 7, 2) := dk_25 7 (dk_at dksX0_last_4 10 rfl rfl)
theorem dX0_last_102 : decode cX0_last 102 = .ok (.iload 8, 2) := dk_21 8 (dk_at dksX0_last_4 12 rfl rfl)
theorem dX0_last_104 : decode cX0_last 104 = .ok (.invokevirtual 232, 3) := dk_182 0 232 (dk_at dksX0_last_4 14 rfl rfl)
theorem dX0_last_107 : decode cX0_last 107 = .ok (.checkcast 326, 3) := dk_192 1 70 (dk_at dksX0_last_4 17 rfl rfl)
theorem dX0_last_110 : decode cX0_last 110 = .ok (.getfield 330, 3) := dk_180 1 74 (dk_at dksX0_last_4 20 rfl rfl)
theorem dX0_last_113 : decode cX0_last 113 = .ok (.iload_n 2, 1) := dk_28 (dk_at dksX0_last_4 23 rfl rfl)
theorem dX0_last_114 : decode cX0_last 114 = .ok (.if_icmp .eq 6, 3) := dk_159 0 6 (dk_at dksX0_last_5 0 rfl rfl)
theorem dX0_last_117 : decode cX0_last 117 = .ok (.goto 35, 3) := dk_167 0 35 (dk_at dksX0_last_5 3 rfl rfl)
theorem dX0_last_120 : decode cX0_last 120 = .ok (.aload 7, 2) := dk_25 7 (dk_at dksX0_last_5 6 rfl rfl)
theorem dX0_last_122 : decode cX0_last 122 = .ok (.iload 8, 2) := dk_21 8 (dk_at dksX0_last_5 8 rfl rfl)
theorem dX0_last_124 : decode cX0_last 124 = .ok (.invokevirtual 232, 3) := dk_182 0 232 (dk_at dksX0_last_5 10 rfl rfl)
theorem dX0_last_127 : decode cX0_last 127 = .ok (.checkcast 326, 3) := dk_192 1 70 (dk_at dksX0_last_5 13 rfl rfl)
theorem dX0_last_130 : decode cX0_last 130 = .ok (.aload_n 0, 1) := dk_42 (dk_at dksX0_last_5 16 rfl rfl)
theorem dX0_last_131 : decode cX0_last 131 = .ok (.getfield 40, 3) := dk_180 0 40 (dk_at dksX0_last_5 17 rfl rfl)
theorem dX0_last_134 : decode cX0_last 134 = .ok (.invokevirtual 331, 3) := dk_182 1 75 (dk_at dksX0_last_5 20 rfl rfl)
theorem dX0_last_137 : decode cX0_last 137 = .ok (.lstore 9, 2) := dk_55 9 (dk_at dksX0_last_6 0 rfl rfl)
theorem dX0_last_139 : decode cX0_last 139 = .ok (.lload 9, 2) := dk_22 9 (dk_at dksX0_last_6 2 rfl rfl)
theorem dX0_last_141 : decode cX0_last 141 = .ok (.ldc2_w 324, 3) := dk_20 1 68 (dk_at dksX0_last_6 4 rfl rfl)
theorem dX0_last_144 : decode cX0_last 144 = .ok (.lcmp, 1) := dk_148 (dk_at dksX0_last_6 7 rfl rfl)
theorem dX0_last_145 : decode cX0_last 145 = .ok (.ifCond .eq 7, 3) := dk_153 0 7 (dk_at dksX0_last_6 8 rfl rfl)
theorem dX0_last_148 : decode cX0_last 148 = .ok (.lload 9, 2) := dk_22 9 (dk_at dksX0_last_6 11 rfl rfl)
theorem dX0_last_150 : decode cX0_last 150 = .ok (.lstore 4, 2) := dk_55 4 (dk_at dksX0_last_6 13 rfl rfl)
theorem dX0_last_152 : decode cX0_last 152 = .ok (.iinc 8 1, 3) := dk_132 8 1 (dk_at dksX0_last_6 15 rfl rfl)
theorem dX0_last_155 : decode cX0_last 155 = .ok (.goto (-101), 3) := dk_167 255 155 (dk_at dksX0_last_6 18 rfl rfl)
theorem dX0_last_158 : decode cX0_last 158 = .ok (.iinc 6 1, 3) := dk_132 6 1 (dk_at dksX0_last_6 21 rfl rfl)
theorem dX0_last_161 : decode cX0_last 161 = .ok (.goto (-145), 3) := dk_167 255 111 (dk_at dksX0_last_7 0 rfl rfl)
theorem dX0_last_164 : decode cX0_last 164 = .ok (.lload 4, 2) := dk_22 4 (dk_at dksX0_last_7 3 rfl rfl)
theorem dX0_last_166 : decode cX0_last 166 = .ok (.lreturn, 1) := dk_173 (dk_at dksX0_last_7 5 rfl rfl)
def dkwX0_roll_1 : List UInt8 := [42, 180, 0, 47, 28, 29, 182, 1, 91, 42, 180, 0, 47, 180, 1, 88, 27, 46, 172]
abbrev dktX0_roll_1 : List UInt8 := dkwX0_roll_1 ++ []
def dkwX0_roll_0 : List UInt8 := [42, 27, 182, 0, 204, 153, 0, 17, 28, 184, 0, 201, 153, 0, 10, 29, 184, 0, 201, 154, 0, 5, 2, 172]
abbrev dktX0_roll_0 : List UInt8 := dkwX0_roll_0 ++ dktX0_roll_1
theorem dksX0_roll_0 : cX0_roll.data.toList.drop 0 = dktX0_roll_0 := by decide +kernel
theorem dksX0_roll_1 : cX0_roll.data.toList.drop 24 = dktX0_roll_1 := dk_seg dksX0_roll_0 24 rfl rfl
theorem dX0_roll_0 : decode cX0_roll 0 = .ok (.aload_n 0, 1) := dk_42 (dk_at dksX0_roll_0 0 rfl rfl)
theorem dX0_roll_1 : decode cX0_roll 1 = .ok (.iload_n 1, 1) := dk_27 (dk_at dksX0_roll_0 1 rfl rfl)
theorem dX0_roll_2 : decode cX0_roll 2 = .ok (.invokevirtual 204, 3) := dk_182 0 204 (dk_at dksX0_roll_0 2 rfl rfl)
theorem dX0_roll_5 : decode cX0_roll 5 = .ok (.ifCond .eq 17, 3) := dk_153 0 17 (dk_at dksX0_roll_0 5 rfl rfl)
theorem dX0_roll_8 : decode cX0_roll 8 = .ok (.iload_n 2, 1) := dk_28 (dk_at dksX0_roll_0 8 rfl rfl)
theorem dX0_roll_9 : decode cX0_roll 9 = .ok (.invokestatic 201, 3) := dk_184 0 201 (dk_at dksX0_roll_0 9 rfl rfl)
theorem dX0_roll_12 : decode cX0_roll 12 = .ok (.ifCond .eq 10, 3) := dk_153 0 10 (dk_at dksX0_roll_0 12 rfl rfl)
theorem dX0_roll_15 : decode cX0_roll 15 = .ok (.iload_n 3, 1) := dk_29 (dk_at dksX0_roll_0 15 rfl rfl)
theorem dX0_roll_16 : decode cX0_roll 16 = .ok (.invokestatic 201, 3) := dk_184 0 201 (dk_at dksX0_roll_0 16 rfl rfl)
theorem dX0_roll_19 : decode cX0_roll 19 = .ok (.ifCond .ne 5, 3) := dk_154 0 5 (dk_at dksX0_roll_0 19 rfl rfl)
theorem dX0_roll_22 : decode cX0_roll 22 = .ok (.iconst (-1), 1) := dk_2 (dk_at dksX0_roll_0 22 rfl rfl)
theorem dX0_roll_23 : decode cX0_roll 23 = .ok (.ireturn, 1) := dk_172 (dk_at dksX0_roll_0 23 rfl rfl)
theorem dX0_roll_24 : decode cX0_roll 24 = .ok (.aload_n 0, 1) := dk_42 (dk_at dksX0_roll_1 0 rfl rfl)
theorem dX0_roll_25 : decode cX0_roll 25 = .ok (.getfield 47, 3) := dk_180 0 47 (dk_at dksX0_roll_1 1 rfl rfl)
theorem dX0_roll_28 : decode cX0_roll 28 = .ok (.iload_n 2, 1) := dk_28 (dk_at dksX0_roll_1 4 rfl rfl)
theorem dX0_roll_29 : decode cX0_roll 29 = .ok (.iload_n 3, 1) := dk_29 (dk_at dksX0_roll_1 5 rfl rfl)
theorem dX0_roll_30 : decode cX0_roll 30 = .ok (.invokevirtual 347, 3) := dk_182 1 91 (dk_at dksX0_roll_1 6 rfl rfl)
theorem dX0_roll_33 : decode cX0_roll 33 = .ok (.aload_n 0, 1) := dk_42 (dk_at dksX0_roll_1 9 rfl rfl)
theorem dX0_roll_34 : decode cX0_roll 34 = .ok (.getfield 47, 3) := dk_180 0 47 (dk_at dksX0_roll_1 10 rfl rfl)
theorem dX0_roll_37 : decode cX0_roll 37 = .ok (.getfield 344, 3) := dk_180 1 88 (dk_at dksX0_roll_1 13 rfl rfl)
theorem dX0_roll_40 : decode cX0_roll 40 = .ok (.iload_n 1, 1) := dk_27 (dk_at dksX0_roll_1 16 rfl rfl)
theorem dX0_roll_41 : decode cX0_roll 41 = .ok (.iaload, 1) := dk_46 (dk_at dksX0_roll_1 17 rfl rfl)
theorem dX0_roll_42 : decode cX0_roll 42 = .ok (.ireturn, 1) := dk_172 (dk_at dksX0_roll_1 18 rfl rfl)
def dkwX0_twice_8 : List UInt8 := [167, 0, 4, 2, 172]
abbrev dktX0_twice_8 : List UInt8 := dkwX0_twice_8 ++ []
def dkwX0_twice_7 : List UInt8 := [172, 132, 4, 1, 132, 6, 1, 167, 255, 144, 132, 5, 1, 167, 255, 117, 29, 2, 160, 0, 8, 21, 4]
abbrev dktX0_twice_7 : List UInt8 := dkwX0_twice_7 ++ dktX0_twice_8
def dkwX0_twice_6 : List UInt8 := [182, 1, 97, 153, 0, 6, 167, 0, 22, 21, 4, 29, 160, 0, 13, 17, 0, 200, 21, 5, 104, 21, 6, 96]
abbrev dktX0_twice_6 : List UInt8 := dkwX0_twice_6 ++ dktX0_twice_7
def dkwX0_twice_5 : List UInt8 := [21, 6, 46, 159, 0, 48, 42, 21, 5, 21, 6, 182, 1, 11, 8, 161, 0, 36, 42, 21, 5, 21, 6]
abbrev dktX0_twice_5 : List UInt8 := dkwX0_twice_5 ++ dktX0_twice_6
def dkwX0_twice_4 : List UInt8 := [21, 6, 51, 153, 0, 71, 42, 180, 0, 47, 180, 1, 95, 21, 5, 46, 42, 180, 0, 47, 180, 1, 95]
abbrev dktX0_twice_4 : List UInt8 := dkwX0_twice_4 ++ dktX0_twice_5
def dkwX0_twice_3 : List UInt8 := [162, 0, 103, 42, 180, 0, 47, 180, 1, 94, 21, 5, 51, 153, 0, 84, 42, 180, 0, 47, 180, 1, 94]
abbrev dktX0_twice_3 : List UInt8 := dkwX0_twice_3 ++ dktX0_twice_4
def dkwX0_twice_2 : List UInt8 := [182, 0, 148, 162, 0, 130, 21, 5, 4, 96, 54, 6, 21, 6, 42, 180, 0, 10, 180, 0, 144, 182, 0, 148]
abbrev dktX0_twice_2 : List UInt8 := dkwX0_twice_2 ++ dktX0_twice_3
def dkwX0_twice_1 : List UInt8 := [180, 0, 47, 27, 28, 182, 1, 91, 3, 54, 4, 3, 54, 5, 21, 5, 42, 180, 0, 10, 180, 0, 144]
abbrev dktX0_twice_1 : List UInt8 := dkwX0_twice_1 ++ dktX0_twice_2
def dkwX0_twice_0 : List UInt8 := [27, 184, 0, 201, 153, 0, 15, 28, 184, 0, 201, 153, 0, 8, 29, 2, 162, 0, 5, 2, 172, 42]
abbrev dktX0_twice_0 : List UInt8 := dkwX0_twice_0 ++ dktX0_twice_1
theorem dksX0_twice_0 : cX0_twice.data.toList.drop 0 = dktX0_twice_0 := by decide +kernel
theorem dksX0_twice_1 : cX0_twice.data.toList.drop 22 = dktX0_twice_1 := dk_seg dksX0_twice_0 22 rfl rfl
theorem dksX0_twice_2 : cX0_twice.data.toList.drop 45 = dktX0_twice_2 := dk_seg dksX0_twice_1 23 rfl rfl
theorem dksX0_twice_3 : cX0_twice.data.toList.drop 69 = dktX0_twice_3 := dk_seg dksX0_twice_2 24 rfl rfl
theorem dksX0_twice_4 : cX0_twice.data.toList.drop 92 = dktX0_twice_4 := dk_seg dksX0_twice_3 23 rfl rfl
theorem dksX0_twice_5 : cX0_twice.data.toList.drop 115 = dktX0_twice_5 := dk_seg dksX0_twice_4 23 rfl rfl
theorem dksX0_twice_6 : cX0_twice.data.toList.drop 138 = dktX0_twice_6 := dk_seg dksX0_twice_5 23 rfl rfl
theorem dksX0_twice_7 : cX0_twice.data.toList.drop 162 = dktX0_twice_7 := dk_seg dksX0_twice_6 24 rfl rfl
theorem dksX0_twice_8 : cX0_twice.data.toList.drop 185 = dktX0_twice_8 := dk_seg dksX0_twice_7 23 rfl rfl
theorem dX0_twice_0 : decode cX0_twice 0 = .ok (.iload_n 1, 1) := dk_27 (dk_at dksX0_twice_0 0 rfl rfl)
theorem dX0_twice_1 : decode cX0_twice 1 = .ok (.invokestatic 201, 3) := dk_184 0 201 (dk_at dksX0_twice_0 1 rfl rfl)
theorem dX0_twice_4 : decode cX0_twice 4 = .ok (.ifCond .eq 15, 3) := dk_153 0 15 (dk_at dksX0_twice_0 4 rfl rfl)
theorem dX0_twice_7 : decode cX0_twice 7 = .ok (.iload_n 2, 1) := dk_28 (dk_at dksX0_twice_0 7 rfl rfl)
theorem dX0_twice_8 : decode cX0_twice 8 = .ok (.invokestatic 201, 3) := dk_184 0 201 (dk_at dksX0_twice_0 8 rfl rfl)
theorem dX0_twice_11 : decode cX0_twice 11 = .ok (.ifCond .eq 8, 3) := dk_153 0 8 (dk_at dksX0_twice_0 11 rfl rfl)
theorem dX0_twice_14 : decode cX0_twice 14 = .ok (.iload_n 3, 1) := dk_29 (dk_at dksX0_twice_0 14 rfl rfl)
theorem dX0_twice_15 : decode cX0_twice 15 = .ok (.iconst (-1), 1) := dk_2 (dk_at dksX0_twice_0 15 rfl rfl)
theorem dX0_twice_16 : decode cX0_twice 16 = .ok (.if_icmp .ge 5, 3) := dk_162 0 5 (dk_at dksX0_twice_0 16 rfl rfl)
theorem dX0_twice_19 : decode cX0_twice 19 = .ok (.iconst (-1), 1) := dk_2 (dk_at dksX0_twice_0 19 rfl rfl)
theorem dX0_twice_20 : decode cX0_twice 20 = .ok (.ireturn, 1) := dk_172 (dk_at dksX0_twice_0 20 rfl rfl)
theorem dX0_twice_21 : decode cX0_twice 21 = .ok (.aload_n 0, 1) := dk_42 (dk_at dksX0_twice_0 21 rfl rfl)
theorem dX0_twice_22 : decode cX0_twice 22 = .ok (.getfield 47, 3) := dk_180 0 47 (dk_at dksX0_twice_1 0 rfl rfl)
theorem dX0_twice_25 : decode cX0_twice 25 = .ok (.iload_n 1, 1) := dk_27 (dk_at dksX0_twice_1 3 rfl rfl)
theorem dX0_twice_26 : decode cX0_twice 26 = .ok (.iload_n 2, 1) := dk_28 (dk_at dksX0_twice_1 4 rfl rfl)
theorem dX0_twice_27 : decode cX0_twice 27 = .ok (.invokevirtual 347, 3) := dk_182 1 91 (dk_at dksX0_twice_1 5 rfl rfl)
theorem dX0_twice_30 : decode cX0_twice 30 = .ok (.iconst 0, 1) := dk_3 (dk_at dksX0_twice_1 8 rfl rfl)
theorem dX0_twice_31 : decode cX0_twice 31 = .ok (.istore 4, 2) := dk_54 4 (dk_at dksX0_twice_1 9 rfl rfl)
theorem dX0_twice_33 : decode cX0_twice 33 = .ok (.iconst 0, 1) := dk_3 (dk_at dksX0_twice_1 11 rfl rfl)
theorem dX0_twice_34 : decode cX0_twice 34 = .ok (.istore 5, 2) := dk_54 5 (dk_at dksX0_twice_1 12 rfl rfl)
theorem dX0_twice_36 : decode cX0_twice 36 = .ok (.iload 5, 2) := dk_21 5 (dk_at dksX0_twice_1 14 rfl rfl)
theorem dX0_twice_38 : decode cX0_twice 38 = .ok (.aload_n 0, 1) := dk_42 (dk_at dksX0_twice_1 16 rfl rfl)
theorem dX0_twice_39 : decode cX0_twice 39 = .ok (.getfield 10, 3) := dk_180 0 10 (dk_at dksX0_twice_1 17 rfl rfl)
theorem dX0_twice_42 : decode cX0_twice 42 = .ok (.getfield 144, 3) := dk_180 0 144 (dk_at dksX0_twice_1 20 rfl rfl)
theorem dX0_twice_45 : decode cX0_twice 45 = .ok (.invokevirtual 148, 3) := dk_182 0 148 (dk_at dksX0_twice_2 0 rfl rfl)
theorem dX0_twice_48 : decode cX0_twice 48 = .ok (.if_icmp .ge 130, 3) := dk_162 0 130 (dk_at dksX0_twice_2 3 rfl rfl)
theorem dX0_twice_51 : decode cX0_twice 51 = .ok (.iload 5, 2) := dk_21 5 (dk_at dksX0_twice_2 6 rfl rfl)
theorem dX0_twice_53 : decode cX0_twice 53 = .ok (.iconst 1, 1) := dk_4 (dk_at dksX0_twice_2 8 rfl rfl)
theorem dX0_twice_54 : decode cX0_twice 54 = .ok (.iadd, 1) := dk_96 (dk_at dksX0_twice_2 9 rfl rfl)
theorem dX0_twice_55 : decode cX0_twice 55 = .ok (.istore 6, 2) := dk_54 6 (dk_at dksX0_twice_2 10 rfl rfl)
theorem dX0_twice_57 : decode cX0_twice 57 = .ok (.iload 6, 2) := dk_21 6 (dk_at dksX0_twice_2 12 rfl rfl)
theorem dX0_twice_59 : decode cX0_twice 59 = .ok (.aload_n 0, 1) := dk_42 (dk_at dksX0_twice_2 14 rfl rfl)
theorem dX0_twice_60 : decode cX0_twice 60 = .ok (.getfield 10, 3) := dk_180 0 10 (dk_at dksX0_twice_2 15 rfl rfl)
theorem dX0_twice_63 : decode cX0_twice 63 = .ok (.getfield 144, 3) := dk_180 0 144 (dk_at dksX0_twice_2 18 rfl rfl)
theorem dX0_twice_66 : decode cX0_twice 66 = .ok (.invokevirtual 148, 3) := dk_182 0 148 (dk_at dksX0_twice_2 21 rfl rfl)
theorem dX0_twice_69 : decode cX0_twice 69 = .ok (.if_icmp .ge 103, 3) := dk_162 0 103 (dk_at dksX0_twice_3 0 rfl rfl)
theorem dX0_twice_72 : decode cX0_twice 72 = .ok (.aload_n 0, 1) := dk_42 (dk_at dksX0_twice_3 3 rfl rfl)
theorem dX0_twice_73 : decode cX0_twice 73 = .ok (.getfield 47, 3) := dk_180 0 47 (dk_at dksX0_twice_3 4 rfl rfl)
theorem dX0_twice_76 : decode cX0_twice 76 = .ok (.getfield 350, 3) := dk_180 1 94 (dk_at dksX0_twice_3 7 rfl rfl)
theorem dX0_twice_79 : decode cX0_twice 79 = .ok (.iload 5, 2) := dk_21 5 (dk_at dksX0_twice_3 10 rfl rfl)
theorem dX0_twice_81 : decode cX0_twice 81 = .ok (.baload, 1) := dk_51 (dk_at dksX0_twice_3 12 rfl rfl)
theorem dX0_twice_82 : decode cX0_twice 82 = .ok (.ifCond .eq 84, 3) := dk_153 0 84 (dk_at dksX0_twice_3 13 rfl rfl)
theorem dX0_twice_85 : decode cX0_twice 85 = .ok (.aload_n 0, 1) := dk_42 (dk_at dksX0_twice_3 16 rfl rfl)
theorem dX0_twice_86 : decode cX0_twice 86 = .ok (.getfield 47, 3) := dk_180 0 47 (dk_at dksX0_twice_3 17 rfl rfl)
theorem dX0_twice_89 : decode cX0_twice 89 = .ok (.getfield 350, 3) := dk_180 1 94 (dk_at dksX0_twice_3 20 rfl rfl)
theorem dX0_twice_92 : decode cX0_twice 92 = .ok (.iload 6, 2) := dk_21 6 (dk_at dksX0_twice_4 0 rfl rfl)
theorem dX0_twice_94 : decode cX0_twice 94 = .ok (.baload, 1) := dk_51 (dk_at dksX0_twice_4 2 rfl rfl)
theorem dX0_twice_95 : decode cX0_twice 95 = .ok (.ifCond .eq 71, 3) := dk_153 0 71 (dk_at dksX0_twice_4 3 rfl rfl)
theorem dX0_twice_98 : decode cX0_twice 98 = .ok (.aload_n 0, 1) := dk_42 (dk_at dksX0_twice_4 6 rfl rfl)
theorem dX0_twice_99 : decode cX0_twice 99 = .ok (.getfield 47, 3) := dk_180 0 47 (dk_at dksX0_twice_4 7 rfl rfl)
theorem dX0_twice_102 : decode cX0_twice 102 = .ok (.getfield 351, 3) := dk_180 1 95 (dk_at dksX0_twice_4 10 rfl rfl)
theorem dX0_twice_105 : decode cX0_twice 105 = .ok (.iload 5, 2) := dk_21 5 (dk_at dksX0_twice_4 13 rfl rfl)
theorem dX0_twice_107 : decode cX0_twice 107 = .ok (.iaload, 1) := dk_46 (dk_at dksX0_twice_4 15 rfl rfl)
theorem dX0_twice_108 : decode cX0_twice 108 = .ok (.aload_n 0, 1) := dk_42 (dk_at dksX0_twice_4 16 rfl rfl)
theorem dX0_twice_109 : decode cX0_twice 109 = .ok (.getfield 47, 3) := dk_180 0 47 (dk_at dksX0_twice_4 17 rfl rfl)
theorem dX0_twice_112 : decode cX0_twice 112 = .ok (.getfield 351, 3) := dk_180 1 95 (dk_at dksX0_twice_4 20 rfl rfl)
theorem dX0_twice_115 : decode cX0_twice 115 = .ok (.iload 6, 2) := dk_21 6 (dk_at dksX0_twice_5 0 rfl rfl)
theorem dX0_twice_117 : decode cX0_twice 117 = .ok (.iaload, 1) := dk_46 (dk_at dksX0_twice_5 2 rfl rfl)
theorem dX0_twice_118 : decode cX0_twice 118 = .ok (.if_icmp .eq 48, 3) := dk_159 0 48 (dk_at dksX0_twice_5 3 rfl rfl)
theorem dX0_twice_121 : decode cX0_twice 121 = .ok (.aload_n 0, 1) := dk_42 (dk_at dksX0_twice_5 6 rfl rfl)
theorem dX0_twice_122 : decode cX0_twice 122 = .ok (.iload 5, 2) := dk_21 5 (dk_at dksX0_twice_5 7 rfl rfl)
theorem dX0_twice_124 : decode cX0_twice 124 = .ok (.iload 6, 2) := dk_21 6 (dk_at dksX0_twice_5 9 rfl rfl)
theorem dX0_twice_126 : decode cX0_twice 126 = .ok (.invokevirtual 267, 3) := dk_182 1 11 (dk_at dksX0_twice_5 11 rfl rfl)
theorem dX0_twice_129 : decode cX0_twice 129 = .ok (.iconst 5, 1) := dk_8 (dk_at dksX0_twice_5 14 rfl rfl)
theorem dX0_twice_130 : decode cX0_twice 130 = .ok (.if_icmp .lt 36, 3) := dk_161 0 36 (dk_at dksX0_twice_5 15 rfl rfl)
theorem dX0_twice_133 : decode cX0_twice 133 = .ok (.aload_n 0, 1) := dk_42 (dk_at dksX0_twice_5 18 rfl rfl)
theorem dX0_twice_134 : decode cX0_twice 134 = .ok (.iload 5, 2) := dk_21 5 (dk_at dksX0_twice_5 19 rfl rfl)
theorem dX0_twice_136 : decode cX0_twice 136 = .ok (.iload 6, 2) := dk_21 6 (dk_at dksX0_twice_5 21 rfl rfl)
theorem dX0_twice_138 : decode cX0_twice 138 = .ok (.invokevirtual 353, 3) := dk_182 1 97 (dk_at dksX0_twice_6 0 rfl rfl)
theorem dX0_twice_141 : decode cX0_twice 141 = .ok (.ifCond .eq 6, 3) := dk_153 0 6 (dk_at dksX0_twice_6 3 rfl rfl)
theorem dX0_twice_144 : decode cX0_twice 144 = .ok (.goto 22, 3) := dk_167 0 22 (dk_at dksX0_twice_6 6 rfl rfl)
theorem dX0_twice_147 : decode cX0_twice 147 = .ok (.iload 4, 2) := dk_21 4 (dk_at dksX0_twice_6 9 rfl rfl)
theorem dX0_twice_149 : decode cX0_twice 149 = .ok (.iload_n 3, 1) := dk_29 (dk_at dksX0_twice_6 11 rfl rfl)
theorem dX0_twice_150 : decode cX0_twice 150 = .ok (.if_icmp .ne 13, 3) := dk_160 0 13 (dk_at dksX0_twice_6 12 rfl rfl)
theorem dX0_twice_153 : decode cX0_twice 153 = .ok (.sipush 200, 3) := dk_17 0 200 (dk_at dksX0_twice_6 15 rfl rfl)
theorem dX0_twice_156 : decode cX0_twice 156 = .ok (.iload 5, 2) := dk_21 5 (dk_at dksX0_twice_6 18 rfl rfl)
theorem dX0_twice_158 : decode cX0_twice 158 = .ok (.imul, 1) := dk_104 (dk_at dksX0_twice_6 20 rfl rfl)
theorem dX0_twice_159 : decode cX0_twice 159 = .ok (.iload 6, 2) := dk_21 6 (dk_at dksX0_twice_6 21 rfl rfl)
theorem dX0_twice_161 : decode cX0_twice 161 = .ok (.iadd, 1) := dk_96 (dk_at dksX0_twice_6 23 rfl rfl)
theorem dX0_twice_162 : decode cX0_twice 162 = .ok (.ireturn, 1) := dk_172 (dk_at dksX0_twice_7 0 rfl rfl)
theorem dX0_twice_163 : decode cX0_twice 163 = .ok (.iinc 4 1, 3) := dk_132 4 1 (dk_at dksX0_twice_7 1 rfl rfl)
theorem dX0_twice_166 : decode cX0_twice 166 = .ok (.iinc 6 1, 3) := dk_132 6 1 (dk_at dksX0_twice_7 4 rfl rfl)
theorem dX0_twice_169 : decode cX0_twice 169 = .ok (.goto (-112), 3) := dk_167 255 144 (dk_at dksX0_twice_7 7 rfl rfl)
theorem dX0_twice_172 : decode cX0_twice 172 = .ok (.iinc 5 1, 3) := dk_132 5 1 (dk_at dksX0_twice_7 10 rfl rfl)
theorem dX0_twice_175 : decode cX0_twice 175 = .ok (.goto (-139), 3) := dk_167 255 117 (dk_at dksX0_twice_7 13 rfl rfl)
theorem dX0_twice_178 : decode cX0_twice 178 = .ok (.iload_n 3, 1) := dk_29 (dk_at dksX0_twice_7 16 rfl rfl)
theorem dX0_twice_179 : decode cX0_twice 179 = .ok (.iconst (-1), 1) := dk_2 (dk_at dksX0_twice_7 17 rfl rfl)
theorem dX0_twice_180 : decode cX0_twice 180 = .ok (.if_icmp .ne 8, 3) := dk_160 0 8 (dk_at dksX0_twice_7 18 rfl rfl)
theorem dX0_twice_183 : decode cX0_twice 183 = .ok (.iload 4, 2) := dk_21 4 (dk_at dksX0_twice_7 21 rfl rfl)
theorem dX0_twice_185 : decode cX0_twice 185 = .ok (.goto 4, 3) := dk_167 0 4 (dk_at dksX0_twice_8 0 rfl rfl)
theorem dX0_twice_188 : decode cX0_twice 188 = .ok (.iconst (-1), 1) := dk_2 (dk_at dksX0_twice_8 3 rfl rfl)
theorem dX0_twice_189 : decode cX0_twice 189 = .ok (.ireturn, 1) := dk_172 (dk_at dksX0_twice_8 4 rfl rfl)
def dkwX0_areBarred_4 : List UInt8 := [27, 160, 0, 5, 4, 172, 132, 3, 1, 167, 255, 153, 3, 172]
abbrev dktX0_areBarred_4 : List UInt8 := dkwX0_areBarred_4 ++ []
def dkwX0_areBarred_3 : List UInt8 := [180, 1, 26, 28, 160, 0, 26, 42, 180, 0, 10, 180, 1, 20, 29, 182, 0, 232, 192, 1, 23, 180, 1, 29]
abbrev dktX0_areBarred_3 : List UInt8 := dkwX0_areBarred_3 ++ dktX0_areBarred_4
def dkwX0_areBarred_2 : List UInt8 := [192, 1, 23, 180, 1, 29, 28, 159, 0, 45, 42, 180, 0, 10, 180, 1, 20, 29, 182, 0, 232, 192, 1, 23]
abbrev dktX0_areBarred_2 : List UInt8 := dkwX0_areBarred_2 ++ dktX0_areBarred_3
def dkwX0_areBarred_1 : List UInt8 := [182, 0, 232, 192, 1, 23, 180, 1, 26, 27, 160, 0, 24, 42, 180, 0, 10, 180, 1, 20, 29, 182, 0, 232]
abbrev dktX0_areBarred_1 : List UInt8 := dkwX0_areBarred_1 ++ dktX0_areBarred_2
def dkwX0_areBarred_0 : List UInt8 := [3, 62, 29, 42, 180, 0, 10, 180, 1, 20, 182, 0, 148, 162, 0, 95, 42, 180, 0, 10, 180, 1, 20, 29]
abbrev dktX0_areBarred_0 : List UInt8 := dkwX0_areBarred_0 ++ dktX0_areBarred_1
theorem dksX0_areBarred_0 : cX0_areBarred.data.toList.drop 0 = dktX0_areBarred_0 := by decide +kernel
theorem dksX0_areBarred_1 : cX0_areBarred.data.toList.drop 24 = dktX0_areBarred_1 := dk_seg dksX0_areBarred_0 24 rfl rfl
theorem dksX0_areBarred_2 : cX0_areBarred.data.toList.drop 48 = dktX0_areBarred_2 := dk_seg dksX0_areBarred_1 24 rfl rfl
theorem dksX0_areBarred_3 : cX0_areBarred.data.toList.drop 72 = dktX0_areBarred_3 := dk_seg dksX0_areBarred_2 24 rfl rfl
theorem dksX0_areBarred_4 : cX0_areBarred.data.toList.drop 96 = dktX0_areBarred_4 := dk_seg dksX0_areBarred_3 24 rfl rfl
theorem dX0_areBarred_0 : decode cX0_areBarred 0 = .ok (.iconst 0, 1) := dk_3 (dk_at dksX0_areBarred_0 0 rfl rfl)
theorem dX0_areBarred_1 : decode cX0_areBarred 1 = .ok (.istore_n 3, 1) := dk_62 (dk_at dksX0_areBarred_0 1 rfl rfl)
theorem dX0_areBarred_2 : decode cX0_areBarred 2 = .ok (.iload_n 3, 1) := dk_29 (dk_at dksX0_areBarred_0 2 rfl rfl)
theorem dX0_areBarred_3 : decode cX0_areBarred 3 = .ok (.aload_n 0, 1) := dk_42 (dk_at dksX0_areBarred_0 3 rfl rfl)
theorem dX0_areBarred_4 : decode cX0_areBarred 4 = .ok (.getfield 10, 3) := dk_180 0 10 (dk_at dksX0_areBarred_0 4 rfl rfl)
theorem dX0_areBarred_7 : decode cX0_areBarred 7 = .ok (.getfield 276, 3) := dk_180 1 20 (dk_at dksX0_areBarred_0 7 rfl rfl)
theorem dX0_areBarred_10 : decode cX0_areBarred 10 = .ok (.invokevirtual 148, 3) := dk_182 0 148 (dk_at dksX0_areBarred_0 10 rfl rfl)
theorem dX0_areBarred_13 : decode cX0_areBarred 13 = .ok (.if_icmp .ge 95, 3) := dk_162 0 95 (dk_at dksX0_areBarred_0 13 rfl rfl)
theorem dX0_areBarred_16 : decode cX0_areBarred 16 = .ok (.aload_n 0, 1) := dk_42 (dk_at dksX0_areBarred_0 16 rfl rfl)
theorem dX0_areBarred_17 : decode cX0_areBarred 17 = .ok (.getfield 10, 3) := dk_180 0 10 (dk_at dksX0_areBarred_0 17 rfl rfl)
theorem dX0_areBarred_20 : decode cX0_areBarred 20 = .ok (.getfield 276, 3) := dk_180 1 20 (dk_at dksX0_areBarred_0 20 rfl rfl)
theorem dX0_areBarred_23 : decode cX0_areBarred 23 = .ok (.iload_n 3, 1) := dk_29 (dk_at dksX0_areBarred_0 23 rfl rfl)
theorem dX0_areBarred_24 : decode cX0_areBarred 24 = .ok (.invokevirtual 232, 3) := dk_182 0 232 (dk_at dksX0_areBarred_1 0 rfl rfl)
theorem dX0_areBarred_27 : decode cX0_areBarred 27 = .ok (.checkcast 279, 3) := dk_192 1 23 (dk_at dksX0_areBarred_1 3 rfl rfl)
theorem dX0_areBarred_30 : decode cX0_areBarred 30 = .ok (.getfield 282, 3) := dk_180 1 26 (dk_at dksX0_areBarred_1 6 rfl rfl)
theorem dX0_areBarred_33 : decode cX0_areBarred 33 = .ok (.iload_n 1, 1) := dk_27 (dk_at dksX0_areBarred_1 9 rfl rfl)
theorem dX0_areBarred_34 : decode cX0_areBarred 34 = .ok (.if_icmp .ne 24, 3) := dk_160 0 24 (dk_at dksX0_areBarred_1 10 rfl rfl)
theorem dX0_areBarred_37 : decode cX0_areBarred 37 = .ok (.aload_n 0, 1) := dk_42 (dk_at dksX0_areBarred_1 13 rfl rfl)
theorem dX0_areBarred_38 : decode cX0_areBarred 38 = .ok (.getfield 10, 3) := dk_180 0 10 (dk_at dksX0_areBarred_1 14 rfl rfl)
theorem dX0_areBarred_41 : decode cX0_areBarred 41 = .ok (.getfield 276, 3) := dk_180 1 20 (dk_at dksX0_areBarred_1 17 rfl rfl)
theorem dX0_areBarred_44 : decode cX0_areBarred 44 = .ok (.iload_n 3, 1) := dk_29 (dk_at dksX0_areBarred_1 20 rfl rfl)
theorem dX0_areBarred_45 : decode cX0_areBarred 45 = .ok (.invokevirtual 232, 3) := dk_182 0 232 (dk_at dksX0_areBarred_1 21 rfl rfl)
theorem dX0_areBarred_48 : decode cX0_areBarred 48 = .ok (.checkcast 279, 3) := dk_192 1 23 (dk_at dksX0_areBarred_2 0 rfl rfl)
theorem dX0_areBarred_51 : decode cX0_areBarred 51 = .ok (.getfield 285, 3) := dk_180 1 29 (dk_at dksX0_areBarred_2 3 rfl rfl)
theorem dX0_areBarred_54 : decode cX0_areBarred 54 = .ok (.iload_n 2, 1) := dk_28 (dk_at dksX0_areBarred_2 6 rfl rfl)
theorem dX0_areBarred_55 : decode cX0_areBarred 55 = .ok (.if_icmp .eq 45, 3) := dk_159 0 45 (dk_at dksX0_areBarred_2 7 rfl rfl)
theorem dX0_areBarred_58 : decode cX0_areBarred 58 = .ok (.aload_n 0, 1) := dk_42 (dk_at dksX0_areBarred_2 10 rfl rfl)
theorem dX0_areBarred_59 : decode cX0_areBarred 59 = .ok (.getfield 10, 3) := dk_180 0 10 (dk_at dksX0_areBarred_2 11 rfl rfl)
theorem dX0_areBarred_62 : decode cX0_areBarred 62 = .ok (.getfield 276, 3) := dk_180 1 20 (dk_at dksX0_areBarred_2 14 rfl rfl)
theorem dX0_areBarred_65 : decode cX0_areBarred 65 = .ok (.iload_n 3, 1) := dk_29 (dk_at dksX0_areBarred_2 17 rfl rfl)
theorem dX0_areBarred_66 : decode cX0_areBarred 66 = .ok (.invokevirtual 232, 3) := dk_182 0 232 (dk_at dksX0_areBarred_2 18 rfl rfl)
theorem dX0_areBarred_69 : decode cX0_areBarred 69 = .ok (.checkcast 279, 3) := dk_192 1 23 (dk_at dksX0_areBarred_2 21 rfl rfl)
theorem dX0_areBarred_72 : decode cX0_areBarred 72 = .ok (.getfield 282, 3) := dk_180 1 26 (dk_at dksX0_areBarred_3 0 rfl rfl)
theorem dX0_areBarred_75 : decode cX0_areBarred 75 = .ok (.iload_n 2, 1) := dk_28 (dk_at dksX0_areBarred_3 3 rfl rfl)
theorem dX0_areBarred_76 : decode cX0_areBarred 76 = .ok (.if_icmp .ne 26, 3) := dk_160 0 26 (dk_at dksX0_areBarred_3 4 rfl rfl)
theorem dX0_areBarred_79 : decode cX0_areBarred 79 = .ok (.aload_n 0, 1) := dk_42 (dk_at dksX0_areBarred_3 7 rfl rfl)
theorem dX0_areBarred_80 : decode cX0_areBarred 80 = .ok (.getfield 10, 3) := dk_180 0 10 (dk_at dksX0_areBarred_3 8 rfl rfl)
theorem dX0_areBarred_83 : decode cX0_areBarred 83 = .ok (.getfield 276, 3) := dk_180 1 20 (dk_at dksX0_areBarred_3 11 rfl rfl)
theorem dX0_areBarred_86 : decode cX0_areBarred 86 = .ok (.iload_n 3, 1) := dk_29 (dk_at dksX0_areBarred_3 14 rfl rfl)
theorem dX0_areBarred_87 : decode cX0_areBarred 87 = .ok (.invokevirtual 232, 3) := dk_182 0 232 (dk_at dksX0_areBarred_3 15 rfl rfl)
theorem dX0_areBarred_90 : decode cX0_areBarred 90 = .ok (.checkcast 279, 3) := dk_192 1 23 (dk_at dksX0_areBarred_3 18 rfl rfl)
theorem dX0_areBarred_93 : decode cX0_areBarred 93 = .ok (.getfield 285, 3) := dk_180 1 29 (dk_at dksX0_areBarred_3 21 rfl rfl)
theorem dX0_areBarred_96 : decode cX0_areBarred 96 = .ok (.iload_n 1, 1) := dk_27 (dk_at dksX0_areBarred_4 0 rfl rfl)
theorem dX0_areBarred_97 : decode cX0_areBarred 97 = .ok (.if_icmp .ne 5, 3) := dk_160 0 5 (dk_at dksX0_areBarred_4 1 rfl rfl)
theorem dX0_areBarred_100 : decode cX0_areBarred 100 = .ok (.iconst 1, 1) := dk_4 (dk_at dksX0_areBarred_4 4 rfl rfl)
theorem dX0_areBarred_101 : decode cX0_areBarred 101 = .ok (.ireturn, 1) := dk_172 (dk_at dksX0_areBarred_4 5 rfl rfl)
theorem dX0_areBarred_102 : decode cX0_areBarred 102 = .ok (.iinc 3 1, 3) := dk_132 3 1 (dk_at dksX0_areBarred_4 6 rfl rfl)
theorem dX0_areBarred_105 : decode cX0_areBarred 105 = .ok (.goto (-103), 3) := dk_167 255 153 (dk_at dksX0_areBarred_4 9 rfl rfl)
theorem dX0_areBarred_108 : decode cX0_areBarred 108 = .ok (.iconst 0, 1) := dk_3 (dk_at dksX0_areBarred_4 12 rfl rfl)
theorem dX0_areBarred_109 : decode cX0_areBarred 109 = .ok (.ireturn, 1) := dk_172 (dk_at dksX0_areBarred_4 13 rfl rfl)
def dkwX0_rule_3 : List UInt8 := [27, 28, 17, 3, 232, 182, 1, 119, 167, 0, 14, 42, 16, 6, 27, 28, 17, 0, 200, 182, 1, 119, 172]
abbrev dktX0_rule_3 : List UInt8 := dkwX0_rule_3 ++ []
def dkwX0_rule_2 : List UInt8 := [182, 1, 91, 21, 4, 5, 160, 0, 11, 42, 28, 182, 1, 116, 167, 0, 32, 21, 4, 154, 0, 16, 42, 8]
abbrev dktX0_rule_2 : List UInt8 := dkwX0_rule_2 ++ dktX0_rule_3
def dkwX0_rule_1 : List UInt8 := [21, 4, 5, 162, 0, 13, 42, 27, 182, 0, 204, 154, 0, 5, 2, 172, 42, 180, 0, 47, 28, 29]
abbrev dktX0_rule_1 : List UInt8 := dkwX0_rule_1 ++ dktX0_rule_2
def dkwX0_rule_0 : List UInt8 := [28, 184, 0, 201, 153, 0, 34, 29, 184, 0, 201, 153, 0, 27, 21, 4, 3, 5, 184, 0, 127, 153, 0, 17]
abbrev dktX0_rule_0 : List UInt8 := dkwX0_rule_0 ++ dktX0_rule_1
theorem dksX0_rule_0 : cX0_rule.data.toList.drop 0 = dktX0_rule_0 := by decide +kernel
theorem dksX0_rule_1 : cX0_rule.data.toList.drop 24 = dktX0_rule_1 := dk_seg dksX0_rule_0 24 rfl rfl
theorem dksX0_rule_2 : cX0_rule.data.toList.drop 46 = dktX0_rule_2 := dk_seg dksX0_rule_1 22 rfl rfl
theorem dksX0_rule_3 : cX0_rule.data.toList.drop 70 = dktX0_rule_3 := dk_seg dksX0_rule_2 24 rfl rfl
theorem dX0_rule_0 : decode cX0_rule 0 = .ok (.iload_n 2, 1) := dk_28 (dk_at dksX0_rule_0 0 rfl rfl)
theorem dX0_rule_1 : decode cX0_rule 1 = .ok (.invokestatic 201, 3) := dk_184 0 201 (dk_at dksX0_rule_0 1 rfl rfl)
theorem dX0_rule_4 : decode cX0_rule 4 = .ok (.ifCond .eq 34, 3) := dk_153 0 34 (dk_at dksX0_rule_0 4 rfl rfl)
theorem dX0_rule_7 : decode cX0_rule 7 = .ok (.iload_n 3, 1) := dk_29 (dk_at dksX0_rule_0 7 rfl rfl)
theorem dX0_rule_8 : decode cX0_rule 8 = .ok (.invokestatic 201, 3) := dk_184 0 201 (dk_at dksX0_rule_0 8 rfl rfl)
theorem dX0_rule_11 : decode cX0_rule 11 = .ok (.ifCond .eq 27, 3) := dk_153 0 27 (dk_at dksX0_rule_0 11 rfl rfl)
theorem dX0_rule_14 : decode cX0_rule 14 = .ok (.iload 4, 2) := dk_21 4 (dk_at dksX0_rule_0 14 rfl rfl)
theorem dX0_rule_16 : decode cX0_rule 16 = .ok (.iconst 0, 1) := dk_3 (dk_at dksX0_rule_0 16 rfl rfl)
theorem dX0_rule_17 : decode cX0_rule 17 = .ok (.iconst 2, 1) := dk_5 (dk_at dksX0_rule_0 17 rfl rfl)
theorem dX0_rule_18 : decode cX0_rule 18 = .ok (.invokestatic 127, 3) := dk_184 0 127 (dk_at dksX0_rule_0 18 rfl rfl)
theorem dX0_rule_21 : decode cX0_rule 21 = .ok (.ifCond .eq 17, 3) := dk_153 0 17 (dk_at dksX0_rule_0 21 rfl rfl)
theorem dX0_rule_24 : decode cX0_rule 24 = .ok (.iload 4, 2) := dk_21 4 (dk_at dksX0_rule_1 0 rfl rfl)
theorem dX0_rule_26 : decode cX0_rule 26 = .ok (.iconst 2, 1) := dk_5 (dk_at dksX0_rule_1 2 rfl rfl)
theorem dX0_rule_27 : decode cX0_rule 27 = .ok (.if_icmp .ge 13, 3) := dk_162 0 13 (dk_at dksX0_rule_1 3 rfl rfl)
theorem dX0_rule_30 : decode cX0_rule 30 = .ok (.aload_n 0, 1) := dk_42 (dk_at dksX0_rule_1 6 rfl rfl)
theorem dX0_rule_31 : decode cX0_rule 31 = .ok (.iload_n 1, 1) := dk_27 (dk_at dksX0_rule_1 7 rfl rfl)
theorem dX0_rule_32 : decode cX0_rule 32 = .ok (.invokevirtual 204, 3) := dk_182 0 204 (dk_at dksX0_rule_1 8 rfl rfl)
theorem dX0_rule_35 : decode cX0_rule 35 = .ok (.ifCond .ne 5, 3) := dk_154 0 5 (dk_at dksX0_rule_1 11 rfl rfl)
theorem dX0_rule_38 : decode cX0_rule 38 = .ok (.iconst (-1), 1) := dk_2 (dk_at dksX0_rule_1 14 rfl rfl)
theorem dX0_rule_39 : decode cX0_rule 39 = .ok (.ireturn, 1) := dk_172 (dk_at dksX0_rule_1 15 rfl rfl)
theorem dX0_rule_40 : decode cX0_rule 40 = .ok (.aload_n 0, 1) := dk_42 (dk_at dksX0_rule_1 16 rfl rfl)
theorem dX0_rule_41 : decode cX0_rule 41 = .ok (.getfield 47, 3) := dk_180 0 47 (dk_at dksX0_rule_1 17 rfl rfl)
theorem dX0_rule_44 : decode cX0_rule 44 = .ok (.iload_n 2, 1) := dk_28 (dk_at dksX0_rule_1 20 rfl rfl)
theorem dX0_rule_45 : decode cX0_rule 45 = .ok (.iload_n 3, 1) := dk_29 (dk_at dksX0_rule_1 21 rfl rfl)
theorem dX0_rule_46 : decode cX0_rule 46 = .ok (.invokevirtual 347, 3) := dk_182 1 91 (dk_at dksX0_rule_2 0 rfl rfl)
theorem dX0_rule_49 : decode cX0_rule 49 = .ok (.iload 4, 2) := dk_21 4 (dk_at dksX0_rule_2 3 rfl rfl)
theorem dX0_rule_51 : decode cX0_rule 51 = .ok (.iconst 2, 1) := dk_5 (dk_at dksX0_rule_2 5 rfl rfl)
theorem dX0_rule_52 : decode cX0_rule 52 = .ok (.if_icmp .ne 11, 3) := dk_160 0 11 (dk_at dksX0_rule_2 6 rfl rfl)
theorem dX0_rule_55 : decode cX0_rule 55 = .ok (.aload_n 0, 1) := dk_42 (dk_at dksX0_rule_2 9 rfl rfl)
theorem dX0_rule_56 : decode cX0_rule 56 = .ok (.iload_n 2, 1) := dk_28 (dk_at dksX0_rule_2 10 rfl rfl)
theorem dX0_rule_57 : decode cX0_rule 57 = .ok (.invokevirtual 372, 3) := dk_182 1 116 (dk_at dksX0_rule_2 11 rfl rfl)
theorem dX0_rule_60 : decode cX0_rule 60 = .ok (.goto 32, 3) := dk_167 0 32 (dk_at dksX0_rule_2 14 rfl rfl)
theorem dX0_rule_63 : decode cX0_rule 63 = .ok (.iload 4, 2) := dk_21 4 (dk_at dksX0_rule_2 17 rfl rfl)
theorem dX0_rule_65 : decode cX0_rule 65 = .ok (.ifCond .ne 16, 3) := dk_154 0 16 (dk_at dksX0_rule_2 19 rfl rfl)
theorem dX0_rule_68 : decode cX0_rule 68 = .ok (.aload_n 0, 1) := dk_42 (dk_at dksX0_rule_2 22 rfl rfl)
theorem dX0_rule_69 : decode cX0_rule 69 = .ok (.iconst 5, 1) := dk_8 (dk_at dksX0_rule_2 23 rfl rfl)
theorem dX0_rule_70 : decode cX0_rule 70 = .ok (.iload_n 1, 1) := dk_27 (dk_at dksX0_rule_3 0 rfl rfl)
theorem dX0_rule_71 : decode cX0_rule 71 = .ok (.iload_n 2, 1) := dk_28 (dk_at dksX0_rule_3 1 rfl rfl)
theorem dX0_rule_72 : decode cX0_rule 72 = .ok (.sipush 1000, 3) := dk_17 3 232 (dk_at dksX0_rule_3 2 rfl rfl)
theorem dX0_rule_75 : decode cX0_rule 75 = .ok (.invokevirtual 375, 3) := dk_182 1 119 (dk_at dksX0_rule_3 5 rfl rfl)
theorem dX0_rule_78 : decode cX0_rule 78 = .ok (.goto 14, 3) := dk_167 0 14 (dk_at dksX0_rule_3 8 rfl rfl)
theorem dX0_rule_81 : decode cX0_rule 81 = .ok (.aload_n 0, 1) := dk_42 (dk_at dksX0_rule_3 11 rfl rfl)
theorem dX0_rule_82 : decode cX0_rule 82 = .ok (.bipush 6, 2) := dk_16 6 (dk_at dksX0_rule_3 12 rfl rfl)
theorem dX0_rule_84 : decode cX0_rule 84 = .ok (.iload_n 1, 1) := dk_27 (dk_at dksX0_rule_3 14 rfl rfl)
theorem dX0_rule_85 : decode cX0_rule 85 = .ok (.iload_n 2, 1) := dk_28 (dk_at dksX0_rule_3 15 rfl rfl)
theorem dX0_rule_86 : decode cX0_rule 86 = .ok (.sipush 200, 3) := dk_17 0 200 (dk_at dksX0_rule_3 16 rfl rfl)
theorem dX0_rule_89 : decode cX0_rule 89 = .ok (.invokevirtual 375, 3) := dk_182 1 119 (dk_at dksX0_rule_3 19 rfl rfl)
theorem dX0_rule_92 : decode cX0_rule 92 = .ok (.ireturn, 1) := dk_172 (dk_at dksX0_rule_3 22 rfl rfl)
def dkwX0_fewOn_0 : List UInt8 := [42, 27, 182, 1, 85, 42, 16, 7, 3, 27, 182, 1, 108, 3, 184, 1, 112, 172]
abbrev dktX0_fewOn_0 : List UInt8 := dkwX0_fewOn_0 ++ []
theorem dksX0_fewOn_0 : cX0_fewOn.data.toList.drop 0 = dktX0_fewOn_0 := by decide +kernel
theorem dX0_fewOn_0 : decode cX0_fewOn 0 = .ok (.aload_n 0, 1) := dk_42 (dk_at dksX0_fewOn_0 0 rfl rfl)
theorem dX0_fewOn_1 : decode cX0_fewOn 1 = .ok (.iload_n 1, 1) := dk_27 (dk_at dksX0_fewOn_0 1 rfl rfl)
theorem dX0_fewOn_2 : decode cX0_fewOn 2 = .ok (.invokevirtual 341, 3) := dk_182 1 85 (dk_at dksX0_fewOn_0 2 rfl rfl)
theorem dX0_fewOn_5 : decode cX0_fewOn 5 = .ok (.aload_n 0, 1) := dk_42 (dk_at dksX0_fewOn_0 5 rfl rfl)
theorem dX0_fewOn_6 : decode cX0_fewOn 6 = .ok (.bipush 7, 2) := dk_16 7 (dk_at dksX0_fewOn_0 6 rfl rfl)
theorem dX0_fewOn_8 : decode cX0_fewOn 8 = .ok (.iconst 0, 1) := dk_3 (dk_at dksX0_fewOn_0 8 rfl rfl)
theorem dX0_fewOn_9 : decode cX0_fewOn 9 = .ok (.iload_n 1, 1) := dk_27 (dk_at dksX0_fewOn_0 9 rfl rfl)
theorem dX0_fewOn_10 : decode cX0_fewOn 10 = .ok (.invokevirtual 364, 3) := dk_182 1 108 (dk_at dksX0_fewOn_0 10 rfl rfl)
theorem dX0_fewOn_13 : decode cX0_fewOn 13 = .ok (.iconst 0, 1) := dk_3 (dk_at dksX0_fewOn_0 13 rfl rfl)
theorem dX0_fewOn_14 : decode cX0_fewOn 14 = .ok (.invokestatic 368, 3) := dk_184 1 112 (dk_at dksX0_fewOn_0 14 rfl rfl)
theorem dX0_fewOn_17 : decode cX0_fewOn 17 = .ok (.ireturn, 1) := dk_172 (dk_at dksX0_fewOn_0 17 rfl rfl)
def dkwX0_atLeast_0 : List UInt8 := [30, 20, 1, 68, 148, 154, 0, 7, 28, 167, 0, 9, 9, 30, 184, 1, 101, 136, 172]
abbrev dktX0_atLeast_0 : List UInt8 := dkwX0_atLeast_0 ++ []
theorem dksX0_atLeast_0 : cX0_atLeast.data.toList.drop 0 = dktX0_atLeast_0 := by decide +kernel
theorem dX0_atLeast_0 : decode cX0_atLeast 0 = .ok (.lload_n 0, 1) := dk_30 (dk_at dksX0_atLeast_0 0 rfl rfl)
theorem dX0_atLeast_1 : decode cX0_atLeast 1 = .ok (.ldc2_w 324, 3) := dk_20 1 68 (dk_at dksX0_atLeast_0 1 rfl rfl)
theorem dX0_atLeast_4 : decode cX0_atLeast 4 = .ok (.lcmp, 1) := dk_148 (dk_at dksX0_atLeast_0 4 rfl rfl)
theorem dX0_atLeast_5 : decode cX0_atLeast 5 = .ok (.ifCond .ne 7, 3) := dk_154 0 7 (dk_at dksX0_atLeast_0 5 rfl rfl)
theorem dX0_atLeast_8 : decode cX0_atLeast 8 = .ok (.iload_n 2, 1) := dk_28 (dk_at dksX0_atLeast_0 8 rfl rfl)
theorem dX0_atLeast_9 : decode cX0_atLeast 9 = .ok (.goto 9, 3) := dk_167 0 9 (dk_at dksX0_atLeast_0 9 rfl rfl)
theorem dX0_atLeast_12 : decode cX0_atLeast 12 = .ok (.lconst 0, 1) := dk_9 (dk_at dksX0_atLeast_0 12 rfl rfl)
theorem dX0_atLeast_13 : decode cX0_atLeast 13 = .ok (.lload_n 0, 1) := dk_30 (dk_at dksX0_atLeast_0 13 rfl rfl)
theorem dX0_atLeast_14 : decode cX0_atLeast 14 = .ok (.invokestatic 357, 3) := dk_184 1 101 (dk_at dksX0_atLeast_0 14 rfl rfl)
theorem dX0_atLeast_17 : decode cX0_atLeast 17 = .ok (.l2i, 1) := dk_136 (dk_at dksX0_atLeast_0 17 rfl rfl)
theorem dX0_atLeast_18 : decode cX0_atLeast 18 = .ok (.ireturn, 1) := dk_172 (dk_at dksX0_atLeast_0 18 rfl rfl)
def dkwX0_ruleOf_0 : List UInt8 := [42, 28, 29, 182, 1, 105, 42, 27, 3, 29, 182, 1, 108, 21, 4, 184, 1, 112, 172]
abbrev dktX0_ruleOf_0 : List UInt8 := dkwX0_ruleOf_0 ++ []
theorem dksX0_ruleOf_0 : cX0_ruleOf.data.toList.drop 0 = dktX0_ruleOf_0 := by decide +kernel
theorem dX0_ruleOf_0 : decode cX0_ruleOf 0 = .ok (.aload_n 0, 1) := dk_42 (dk_at dksX0_ruleOf_0 0 rfl rfl)
theorem dX0_ruleOf_1 : decode cX0_ruleOf 1 = .ok (.iload_n 2, 1) := dk_28 (dk_at dksX0_ruleOf_0 1 rfl rfl)
theorem dX0_ruleOf_2 : decode cX0_ruleOf 2 = .ok (.iload_n 3, 1) := dk_29 (dk_at dksX0_ruleOf_0 2 rfl rfl)
theorem dX0_ruleOf_3 : decode cX0_ruleOf 3 = .ok (.invokevirtual 361, 3) := dk_182 1 105 (dk_at dksX0_ruleOf_0 3 rfl rfl)
theorem dX0_ruleOf_6 : decode cX0_ruleOf 6 = .ok (.aload_n 0, 1) := dk_42 (dk_at dksX0_ruleOf_0 6 rfl rfl)
theorem dX0_ruleOf_7 : decode cX0_ruleOf 7 = .ok (.iload_n 1, 1) := dk_27 (dk_at dksX0_ruleOf_0 7 rfl rfl)
theorem dX0_ruleOf_8 : decode cX0_ruleOf 8 = .ok (.iconst 0, 1) := dk_3 (dk_at dksX0_ruleOf_0 8 rfl rfl)
theorem dX0_ruleOf_9 : decode cX0_ruleOf 9 = .ok (.iload_n 3, 1) := dk_29 (dk_at dksX0_ruleOf_0 9 rfl rfl)
theorem dX0_ruleOf_10 : decode cX0_ruleOf 10 = .ok (.invokevirtual 364, 3) := dk_182 1 108 (dk_at dksX0_ruleOf_0 10 rfl rfl)
theorem dX0_ruleOf_13 : decode cX0_ruleOf 13 = .ok (.iload 4, 2) := dk_21 4 (dk_at dksX0_ruleOf_0 13 rfl rfl)
theorem dX0_ruleOf_15 : decode cX0_ruleOf 15 = .ok (.invokestatic 368, 3) := dk_184 1 112 (dk_at dksX0_ruleOf_0 15 rfl rfl)
theorem dX0_ruleOf_18 : decode cX0_ruleOf 18 = .ok (.ireturn, 1) := dk_172 (dk_at dksX0_ruleOf_0 18 rfl rfl)
def dkwX0_asksPlace_2 : List UInt8 := [180, 1, 88, 27, 46, 133, 80, 177]
abbrev dktX0_asksPlace_2 : List UInt8 := dkwX0_asksPlace_2 ++ []
def dkwX0_asksPlace_1 : List UInt8 := [42, 180, 0, 10, 180, 0, 160, 27, 46, 133, 80, 42, 180, 0, 40, 180, 1, 82, 8, 42, 180, 0, 47]
abbrev dktX0_asksPlace_1 : List UInt8 := dkwX0_asksPlace_1 ++ dktX0_asksPlace_2
def dkwX0_asksPlace_0 : List UInt8 := [42, 28, 182, 1, 85, 42, 180, 0, 40, 180, 1, 82, 5, 27, 133, 80, 42, 180, 0, 40, 180, 1, 82, 6]
abbrev dktX0_asksPlace_0 : List UInt8 := dkwX0_asksPlace_0 ++ dktX0_asksPlace_1
theorem dksX0_asksPlace_0 : cX0_asksPlace.data.toList.drop 0 = dktX0_asksPlace_0 := by decide +kernel
theorem dksX0_asksPlace_1 : cX0_asksPlace.data.toList.drop 24 = dktX0_asksPlace_1 := dk_seg dksX0_asksPlace_0 24 rfl rfl
theorem dksX0_asksPlace_2 : cX0_asksPlace.data.toList.drop 47 = dktX0_asksPlace_2 := dk_seg dksX0_asksPlace_1 23 rfl rfl
theorem dX0_asksPlace_0 : decode cX0_asksPlace 0 = .ok (.aload_n 0, 1) := dk_42 (dk_at dksX0_asksPlace_0 0 rfl rfl)
theorem dX0_asksPlace_1 : decode cX0_asksPlace 1 = .ok (.iload_n 2, 1) := dk_28 (dk_at dksX0_asksPlace_0 1 rfl rfl)
theorem dX0_asksPlace_2 : decode cX0_asksPlace 2 = .ok (.invokevirtual 341, 3) := dk_182 1 85 (dk_at dksX0_asksPlace_0 2 rfl rfl)
theorem dX0_asksPlace_5 : decode cX0_asksPlace 5 = .ok (.aload_n 0, 1) := dk_42 (dk_at dksX0_asksPlace_0 5 rfl rfl)
theorem dX0_asksPlace_6 : decode cX0_asksPlace 6 = .ok (.getfield 40, 3) := dk_180 0 40 (dk_at dksX0_asksPlace_0 6 rfl rfl)
theorem dX0_asksPlace_9 : decode cX0_asksPlace 9 = .ok (.getfield 338, 3) := dk_180 1 82 (dk_at dksX0_asksPlace_0 9 rfl rfl)
theorem dX0_asksPlace_12 : decode cX0_asksPlace 12 = .ok (.iconst 2, 1) := dk_5 (dk_at dksX0_asksPlace_0 12 rfl rfl)
theorem dX0_asksPlace_13 : decode cX0_asksPlace 13 = .ok (.iload_n 1, 1) := dk_27 (dk_at dksX0_asksPlace_0 13 rfl rfl)
theorem dX0_asksPlace_14 : decode cX0_asksPlace 14 = .ok (.i2l, 1) := dk_133 (dk_at dksX0_asksPlace_0 14 rfl rfl)
theorem dX0_asksPlace_15 : decode cX0_asksPlace 15 = .ok (.lastore, 1) := dk_80 (dk_at dksX0_asksPlace_0 15 rfl rfl)
theorem dX0_asksPlace_16 : decode cX0_asksPlace 16 = .ok (.aload_n 0, 1) := dk_42 (dk_at dksX0_asksPlace_0 16 rfl rfl)
theorem dX0_asksPlace_17 : decode cX0_asksPlace 17 = .ok (.getfield 40, 3) := dk_180 0 40 (dk_at dksX0_asksPlace_0 17 rfl rfl)
theorem dX0_asksPlace_20 : decode cX0_asksPlace 20 = .ok (.getfield 338, 3) := dk_180 1 82 (dk_at dksX0_asksPlace_0 20 rfl rfl)
theorem dX0_asksPlace_23 : decode cX0_asksPlace 23 = .ok (.iconst 3, 1) := dk_6 (dk_at dksX0_asksPlace_0 23 rfl rfl)
theorem dX0_asksPlace_24 : decode cX0_asksPlace 24 = .ok (.aload_n 0, 1) := dk_42 (dk_at dksX0_asksPlace_1 0 rfl rfl)
theorem dX0_asksPlace_25 : decode cX0_asksPlace 25 = .ok (.getfield 10, 3) := dk_180 0 10 (dk_at dksX0_asksPlace_1 1 rfl rfl)
theorem dX0_asksPlace_28 : decode cX0_asksPlace 28 = .ok (.getfield 160, 3) := dk_180 0 160 (dk_at dksX0_asksPlace_1 4 rfl rfl)
theorem dX0_asksPlace_31 : decode cX0_asksPlace 31 = .ok (.iload_n 1, 1) := dk_27 (dk_at dksX0_asksPlace_1 7 rfl rfl)
theorem dX0_asksPlace_32 : decode cX0_asksPlace 32 = .ok (.iaload, 1) := dk_46 (dk_at dksX0_asksPlace_1 8 rfl rfl)
theorem dX0_asksPlace_33 : decode cX0_asksPlace 33 = .ok (.i2l, 1) := dk_133 (dk_at dksX0_asksPlace_1 9 rfl rfl)
theorem dX0_asksPlace_34 : decode cX0_asksPlace 34 = .ok (.lastore, 1) := dk_80 (dk_at dksX0_asksPlace_1 10 rfl rfl)
theorem dX0_asksPlace_35 : decode cX0_asksPlace 35 = .ok (.aload_n 0, 1) := dk_42 (dk_at dksX0_asksPlace_1 11 rfl rfl)
theorem dX0_asksPlace_36 : decode cX0_asksPlace 36 = .ok (.getfield 40, 3) := dk_180 0 40 (dk_at dksX0_asksPlace_1 12 rfl rfl)
theorem dX0_asksPlace_39 : decode cX0_asksPlace 39 = .ok (.getfield 338, 3) := dk_180 1 82 (dk_at dksX0_asksPlace_1 15 rfl rfl)
theorem dX0_asksPlace_42 : decode cX0_asksPlace 42 = .ok (.iconst 5, 1) := dk_8 (dk_at dksX0_asksPlace_1 18 rfl rfl)
theorem dX0_asksPlace_43 : decode cX0_asksPlace 43 = .ok (.aload_n 0, 1) := dk_42 (dk_at dksX0_asksPlace_1 19 rfl rfl)
theorem dX0_asksPlace_44 : decode cX0_asksPlace 44 = .ok (.getfield 47, 3) := dk_180 0 47 (dk_at dksX0_asksPlace_1 20 rfl rfl)
theorem dX0_asksPlace_47 : decode cX0_asksPlace 47 = .ok (.getfield 344, 3) := dk_180 1 88 (dk_at dksX0_asksPlace_2 0 rfl rfl)
theorem dX0_asksPlace_50 : decode cX0_asksPlace 50 = .ok (.iload_n 1, 1) := dk_27 (dk_at dksX0_asksPlace_2 3 rfl rfl)
theorem dX0_asksPlace_51 : decode cX0_asksPlace 51 = .ok (.iaload, 1) := dk_46 (dk_at dksX0_asksPlace_2 4 rfl rfl)
theorem dX0_asksPlace_52 : decode cX0_asksPlace 52 = .ok (.i2l, 1) := dk_133 (dk_at dksX0_asksPlace_2 5 rfl rfl)
theorem dX0_asksPlace_53 : decode cX0_asksPlace 53 = .ok (.lastore, 1) := dk_80 (dk_at dksX0_asksPlace_2 6 rfl rfl)
theorem dX0_asksPlace_54 : decode cX0_asksPlace 54 = .ok (.return_, 1) := dk_177 (dk_at dksX0_asksPlace_2 7 rfl rfl)
def dkwX0_wish_4 : List UInt8 := [17, 1, 143, 79, 42, 89, 180, 1, 123, 4, 96, 181, 1, 123, 42, 42, 180, 1, 123, 182, 0, 123, 172]
abbrev dktX0_wish_4 : List UInt8 := dkwX0_wish_4 ++ []
def dkwX0_wish_3 : List UInt8 := [180, 1, 123, 27, 79, 42, 180, 0, 55, 42, 180, 1, 123, 3, 79, 42, 180, 0, 58, 42, 180, 1, 123]
abbrev dktX0_wish_3 : List UInt8 := dkwX0_wish_3 ++ dktX0_wish_4
def dkwX0_wish_2 : List UInt8 := [167, 255, 228, 42, 180, 1, 123, 16, 7, 160, 0, 10, 42, 16, 251, 182, 0, 131, 172, 42, 180, 0, 51, 42]
abbrev dktX0_wish_2 : List UInt8 := dkwX0_wish_2 ++ dktX0_wish_3
def dkwX0_wish_1 : List UInt8 := [162, 0, 26, 42, 180, 0, 51, 28, 46, 27, 160, 0, 10, 42, 16, 252, 182, 0, 131, 172, 132, 2, 1]
abbrev dktX0_wish_1 : List UInt8 := dkwX0_wish_1 ++ dktX0_wish_2
def dkwX0_wish_0 : List UInt8 := [42, 27, 182, 0, 204, 154, 0, 10, 42, 16, 254, 182, 0, 131, 172, 3, 61, 28, 42, 180, 1, 123]
abbrev dktX0_wish_0 : List UInt8 := dkwX0_wish_0 ++ dktX0_wish_1
theorem dksX0_wish_0 : cX0_wish.data.toList.drop 0 = dktX0_wish_0 := by decide +kernel
theorem dksX0_wish_1 : cX0_wish.data.toList.drop 22 = dktX0_wish_1 := dk_seg dksX0_wish_0 22 rfl rfl
theorem dksX0_wish_2 : cX0_wish.data.toList.drop 45 = dktX0_wish_2 := dk_seg dksX0_wish_1 23 rfl rfl
theorem dksX0_wish_3 : cX0_wish.data.toList.drop 69 = dktX0_wish_3 := dk_seg dksX0_wish_2 24 rfl rfl
theorem dksX0_wish_4 : cX0_wish.data.toList.drop 92 = dktX0_wish_4 := dk_seg dksX0_wish_3 23 rfl rfl
theorem dX0_wish_0 : decode cX0_wish 0 = .ok (.aload_n 0, 1) := dk_42 (dk_at dksX0_wish_0 0 rfl rfl)
theorem dX0_wish_1 : decode cX0_wish 1 = .ok (.iload_n 1, 1) := dk_27 (dk_at dksX0_wish_0 1 rfl rfl)
theorem dX0_wish_2 : decode cX0_wish 2 = .ok (.invokevirtual 204, 3) := dk_182 0 204 (dk_at dksX0_wish_0 2 rfl rfl)
theorem dX0_wish_5 : decode cX0_wish 5 = .ok (.ifCond .ne 10, 3) := dk_154 0 10 (dk_at dksX0_wish_0 5 rfl rfl)
theorem dX0_wish_8 : decode cX0_wish 8 = .ok (.aload_n 0, 1) := dk_42 (dk_at dksX0_wish_0 8 rfl rfl)
theorem dX0_wish_9 : decode cX0_wish 9 = .ok (.bipush (-2), 2) := dk_16 254 (dk_at dksX0_wish_0 9 rfl rfl)
theorem dX0_wish_11 : decode cX0_wish 11 = .ok (.invokevirtual 131, 3) := dk_182 0 131 (dk_at dksX0_wish_0 11 rfl rfl)
theorem dX0_wish_14 : decode cX0_wish 14 = .ok (.ireturn, 1) := dk_172 (dk_at dksX0_wish_0 14 rfl rfl)
theorem dX0_wish_15 : decode cX0_wish 15 = .ok (.iconst 0, 1) := dk_3 (dk_at dksX0_wish_0 15 rfl rfl)
theorem dX0_wish_16 : decode cX0_wish 16 = .ok (.istore_n 2, 1) := dk_61 (dk_at dksX0_wish_0 16 rfl rfl)
theorem dX0_wish_17 : decode cX0_wish 17 = .ok (.iload_n 2, 1) := dk_28 (dk_at dksX0_wish_0 17 rfl rfl)
theorem dX0_wish_18 : decode cX0_wish 18 = .ok (.aload_n 0, 1) := dk_42 (dk_at dksX0_wish_0 18 rfl rfl)
theorem dX0_wish_19 : decode cX0_wish 19 = .ok (.getfield 379, 3) := dk_180 1 123 (dk_at dksX0_wish_0 19 rfl rfl)
theorem dX0_wish_22 : decode cX0_wish 22 = .ok (.if_icmp .ge 26, 3) := dk_162 0 26 (dk_at dksX0_wish_1 0 rfl rfl)
theorem dX0_wish_25 : decode cX0_wish 25 = .ok (.aload_n 0, 1) := dk_42 (dk_at dksX0_wish_1 3 rfl rfl)
theorem dX0_wish_26 : decode cX0_wish 26 = .ok (.getfield 51, 3) := dk_180 0 51 (dk_at dksX0_wish_1 4 rfl rfl)
theorem dX0_wish_29 : decode cX0_wish 29 = .ok (.iload_n 2, 1) := dk_28 (dk_at dksX0_wish_1 7 rfl rfl)
theorem dX0_wish_30 : decode cX0_wish 30 = .ok (.iaload, 1) := dk_46 (dk_at dksX0_wish_1 8 rfl rfl)
theorem dX0_wish_31 : decode cX0_wish 31 = .ok (.iload_n 1, 1) := dk_27 (dk_at dksX0_wish_1 9 rfl rfl)
theorem dX0_wish_32 : decode cX0_wish 32 = .ok (.if_icmp .ne 10, 3) := dk_160 0 10 (dk_at dksX0_wish_1 10 rfl rfl)
theorem dX0_wish_35 : decode cX0_wish 35 = .ok (.aload_n 0, 1) := dk_42 (dk_at dksX0_wish_1 13 rfl rfl)
theorem dX0_wish_36 : decode cX0_wish 36 = .ok (.bipush (-4), 2) := dk_16 252 (dk_at dksX0_wish_1 14 rfl rfl)
theorem dX0_wish_38 : decode cX0_wish 38 = .ok (.invokevirtual 131, 3) := dk_182 0 131 (dk_at dksX0_wish_1 16 rfl rfl)
theorem dX0_wish_41 : decode cX0_wish 41 = .ok (.ireturn, 1) := dk_172 (dk_at dksX0_wish_1 19 rfl rfl)
theorem dX0_wish_42 : decode cX0_wish 42 = .ok (.iinc 2 1, 3) := dk_132 2 1 (dk_at dksX0_wish_1 20 rfl rfl)
theorem dX0_wish_45 : decode cX0_wish 45 = .ok (.goto (-28), 3) := dk_167 255 228 (dk_at dksX0_wish_2 0 rfl rfl)
theorem dX0_wish_48 : decode cX0_wish 48 = .ok (.aload_n 0, 1) := dk_42 (dk_at dksX0_wish_2 3 rfl rfl)
theorem dX0_wish_49 : decode cX0_wish 49 = .ok (.getfield 379, 3) := dk_180 1 123 (dk_at dksX0_wish_2 4 rfl rfl)
theorem dX0_wish_52 : decode cX0_wish 52 = .ok (.bipush 7, 2) := dk_16 7 (dk_at dksX0_wish_2 7 rfl rfl)
theorem dX0_wish_54 : decode cX0_wish 54 = .ok (.if_icmp .ne 10, 3) := dk_160 0 10 (dk_at dksX0_wish_2 9 rfl rfl)
theorem dX0_wish_57 : decode cX0_wish 57 = .ok (.aload_n 0, 1) := dk_42 (dk_at dksX0_wish_2 12 rfl rfl)
theorem dX0_wish_58 : decode cX0_wish 58 = .ok (.bipush (-5), 2) := dk_16 251 (dk_at dksX0_wish_2 13 rfl rfl)
theorem dX0_wish_60 : decode cX0_wish 60 = .ok (.invokevirtual 131, 3) := dk_182 0 131 (dk_at dksX0_wish_2 15 rfl rfl)
theorem dX0_wish_63 : decode cX0_wish 63 = .ok (.ireturn, 1) := dk_172 (dk_at dksX0_wish_2 18 rfl rfl)
theorem dX0_wish_64 : decode cX0_wish 64 = .ok (.aload_n 0, 1) := dk_42 (dk_at dksX0_wish_2 19 rfl rfl)
theorem dX0_wish_65 : decode cX0_wish 65 = .ok (.getfield 51, 3) := dk_180 0 51 (dk_at dksX0_wish_2 20 rfl rfl)
theorem dX0_wish_68 : decode cX0_wish 68 = .ok (.aload_n 0, 1) := dk_42 (dk_at dksX0_wish_2 23 rfl rfl)
theorem dX0_wish_69 : decode cX0_wish 69 = .ok (.getfield 379, 3) := dk_180 1 123 (dk_at dksX0_wish_3 0 rfl rfl)
theorem dX0_wish_72 : decode cX0_wish 72 = .ok (.iload_n 1, 1) := dk_27 (dk_at dksX0_wish_3 3 rfl rfl)
theorem dX0_wish_73 : decode cX0_wish 73 = .ok (.iastore, 1) := dk_79 (dk_at dksX0_wish_3 4 rfl rfl)
theorem dX0_wish_74 : decode cX0_wish 74 = .ok (.aload_n 0, 1) := dk_42 (dk_at dksX0_wish_3 5 rfl rfl)
theorem dX0_wish_75 : decode cX0_wish 75 = .ok (.getfield 55, 3) := dk_180 0 55 (dk_at dksX0_wish_3 6 rfl rfl)
theorem dX0_wish_78 : decode cX0_wish 78 = .ok (.aload_n 0, 1) := dk_42 (dk_at dksX0_wish_3 9 rfl rfl)
theorem dX0_wish_79 : decode cX0_wish 79 = .ok (.getfield 379, 3) := dk_180 1 123 (dk_at dksX0_wish_3 10 rfl rfl)
theorem dX0_wish_82 : decode cX0_wish 82 = .ok (.iconst 0, 1) := dk_3 (dk_at dksX0_wish_3 13 rfl rfl)
theorem dX0_wish_83 : decode cX0_wish 83 = .ok (.iastore, 1) := dk_79 (dk_at dksX0_wish_3 14 rfl rfl)
theorem dX0_wish_84 : decode cX0_wish 84 = .ok (.aload_n 0, 1) := dk_42 (dk_at dksX0_wish_3 15 rfl rfl)
theorem dX0_wish_85 : decode cX0_wish 85 = .ok (.getfield 58, 3) := dk_180 0 58 (dk_at dksX0_wish_3 16 rfl rfl)
theorem dX0_wish_88 : decode cX0_wish 88 = .ok (.aload_n 0, 1) := dk_42 (dk_at dksX0_wish_3 19 rfl rfl)
theorem dX0_wish_89 : decode cX0_wish 89 = .ok (.getfield 379, 3) := dk_180 1 123 (dk_at dksX0_wish_3 20 rfl rfl)
theorem dX0_wish_92 : decode cX0_wish 92 = .ok (.sipush 399, 3) := dk_17 1 143 (dk_at dksX0_wish_4 0 rfl rfl)
theorem dX0_wish_95 : decode cX0_wish 95 = .ok (.iastore, 1) := dk_79 (dk_at dksX0_wish_4 3 rfl rfl)
theorem dX0_wish_96 : decode cX0_wish 96 = .ok (.aload_n 0, 1) := dk_42 (dk_at dksX0_wish_4 4 rfl rfl)
theorem dX0_wish_97 : decode cX0_wish 97 = .ok (.dup, 1) := dk_89 (dk_at dksX0_wish_4 5 rfl rfl)
theorem dX0_wish_98 : decode cX0_wish 98 = .ok (.getfield 379, 3) := dk_180 1 123 (dk_at dksX0_wish_4 6 rfl rfl)
theorem dX0_wish_101 : decode cX0_wish 101 = .ok (.iconst 1, 1) := dk_4 (dk_at dksX0_wish_4 9 rfl rfl)
theorem dX0_wish_102 : decode cX0_wish 102 = .ok (.iadd, 1) := dk_96 (dk_at dksX0_wish_4 10 rfl rfl)
theorem dX0_wish_103 : decode cX0_wish 103 = .ok (.putfield 379, 3) := dk_181 1 123 (dk_at dksX0_wish_4 11 rfl rfl)
theorem dX0_wish_106 : decode cX0_wish 106 = .ok (.aload_n 0, 1) := dk_42 (dk_at dksX0_wish_4 14 rfl rfl)
theorem dX0_wish_107 : decode cX0_wish 107 = .ok (.aload_n 0, 1) := dk_42 (dk_at dksX0_wish_4 15 rfl rfl)
theorem dX0_wish_108 : decode cX0_wish 108 = .ok (.getfield 379, 3) := dk_180 1 123 (dk_at dksX0_wish_4 16 rfl rfl)
theorem dX0_wish_111 : decode cX0_wish 111 = .ok (.invokevirtual 123, 3) := dk_182 0 123 (dk_at dksX0_wish_4 19 rfl rfl)
theorem dX0_wish_114 : decode cX0_wish 114 = .ok (.ireturn, 1) := dk_172 (dk_at dksX0_wish_4 22 rfl rfl)
def dkwX0_clear_0 : List UInt8 := [42, 180, 1, 123, 60, 42, 3, 181, 1, 123, 27, 172]
abbrev dktX0_clear_0 : List UInt8 := dkwX0_clear_0 ++ []
theorem dksX0_clear_0 : cX0_clear.data.toList.drop 0 = dktX0_clear_0 := by decide +kernel
theorem dX0_clear_0 : decode cX0_clear 0 = .ok (.aload_n 0, 1) := dk_42 (dk_at dksX0_clear_0 0 rfl rfl)
theorem dX0_clear_1 : decode cX0_clear 1 = .ok (.getfield 379, 3) := dk_180 1 123 (dk_at dksX0_clear_0 1 rfl rfl)
theorem dX0_clear_4 : decode cX0_clear 4 = .ok (.istore_n 1, 1) := dk_60 (dk_at dksX0_clear_0 4 rfl rfl)
theorem dX0_clear_5 : decode cX0_clear 5 = .ok (.aload_n 0, 1) := dk_42 (dk_at dksX0_clear_0 5 rfl rfl)
theorem dX0_clear_6 : decode cX0_clear 6 = .ok (.iconst 0, 1) := dk_3 (dk_at dksX0_clear_0 6 rfl rfl)
theorem dX0_clear_7 : decode cX0_clear 7 = .ok (.putfield 379, 3) := dk_181 1 123 (dk_at dksX0_clear_0 7 rfl rfl)
theorem dX0_clear_10 : decode cX0_clear 10 = .ok (.iload_n 1, 1) := dk_27 (dk_at dksX0_clear_0 10 rfl rfl)
theorem dX0_clear_11 : decode cX0_clear 11 = .ok (.ireturn, 1) := dk_172 (dk_at dksX0_clear_0 11 rfl rfl)
def dkwX0_booths_7 : List UInt8 := [29, 172]
abbrev dktX0_booths_7 : List UInt8 := dkwX0_booths_7 ++ []
def dkwX0_booths_6 : List UInt8 := [167, 255, 153, 29, 2, 160, 0, 5, 2, 172, 42, 42, 180, 1, 123, 181, 0, 79, 42, 21, 4, 181, 1, 150]
abbrev dktX0_booths_6 : List UInt8 := dkwX0_booths_6 ++ dktX0_booths_7
def dkwX0_booths_5 : List UInt8 := [3, 42, 180, 0, 76, 3, 42, 180, 1, 123, 184, 0, 216, 132, 6, 1, 167, 255, 176, 132, 5, 1]
abbrev dktX0_booths_5 : List UInt8 := dkwX0_booths_5 ++ dktX0_booths_6
def dkwX0_booths_4 : List UInt8 := [159, 0, 13, 21, 7, 21, 4, 161, 0, 6, 167, 0, 27, 21, 6, 62, 21, 7, 54, 4, 42, 180, 0, 73]
abbrev dktX0_booths_4 : List UInt8 := dkwX0_booths_4 ++ dktX0_booths_5
def dkwX0_booths_3 : List UInt8 := [159, 0, 6, 167, 0, 56, 42, 21, 6, 182, 1, 147, 54, 7, 21, 7, 2, 159, 0, 42, 29, 2]
abbrev dktX0_booths_3 : List UInt8 := dkwX0_booths_3 ++ dktX0_booths_4
def dkwX0_booths_2 : List UInt8 := [160, 0, 95, 3, 54, 6, 21, 6, 4, 42, 180, 1, 123, 120, 162, 0, 75, 21, 6, 184, 1, 142, 21, 5]
abbrev dktX0_booths_2 : List UInt8 := dkwX0_booths_2 ++ dktX0_booths_3
def dkwX0_booths_1 : List UInt8 := [27, 28, 182, 1, 139, 2, 62, 3, 54, 4, 3, 54, 5, 21, 5, 42, 180, 1, 123, 163, 0, 100, 29, 2]
abbrev dktX0_booths_1 : List UInt8 := dkwX0_booths_1 ++ dktX0_booths_2
def dkwX0_booths_0 : List UInt8 := [27, 184, 0, 201, 153, 0, 17, 28, 184, 0, 201, 153, 0, 10, 42, 182, 1, 135, 154, 0, 5, 2, 172, 42]
abbrev dktX0_booths_0 : List UInt8 := dkwX0_booths_0 ++ dktX0_booths_1
theorem dksX0_booths_0 : cX0_booths.data.toList.drop 0 = dktX0_booths_0 := by decide +kernel
theorem dksX0_booths_1 : cX0_booths.data.toList.drop 24 = dktX0_booths_1 := dk_seg dksX0_booths_0 24 rfl rfl
theorem dksX0_booths_2 : cX0_booths.data.toList.drop 48 = dktX0_booths_2 := dk_seg dksX0_booths_1 24 rfl rfl
theorem dksX0_booths_3 : cX0_booths.data.toList.drop 72 = dktX0_booths_3 := dk_seg dksX0_booths_2 24 rfl rfl
theorem dksX0_booths_4 : cX0_booths.data.toList.drop 94 = dktX0_booths_4 := dk_seg dksX0_booths_3 22 rfl rfl
theorem dksX0_booths_5 : cX0_booths.data.toList.drop 118 = dktX0_booths_5 := dk_seg dksX0_booths_4 24 rfl rfl
theorem dksX0_booths_6 : cX0_booths.data.toList.drop 140 = dktX0_booths_6 := dk_seg dksX0_booths_5 22 rfl rfl
theorem dksX0_booths_7 : cX0_booths.data.toList.drop 164 = dktX0_booths_7 := dk_seg dksX0_booths_6 24 rfl rfl
theorem dX0_booths_0 : decode cX0_booths 0 = .ok (.iload_n 1, 1) := dk_27 (dk_at dksX0_booths_0 0 rfl rfl)
theorem dX0_booths_1 : decode cX0_booths 1 = .ok (.invokestatic 201, 3) := dk_184 0 201 (dk_at dksX0_booths_0 1 rfl rfl)
theorem dX0_booths_4 : decode cX0_booths 4 = .ok (.ifCond .eq 17, 3) := dk_153 0 17 (dk_at dksX0_booths_0 4 rfl rfl)
theorem dX0_booths_7 : decode cX0_booths 7 = .ok (.iload_n 2, 1) := dk_28 (dk_at dksX0_booths_0 7 rfl rfl)
theorem dX0_booths_8 : decode cX0_booths 8 = .ok (.invokestatic 201, 3) := dk_184 0 201 (dk_at dksX0_booths_0 8 rfl rfl)
theorem dX0_booths_11 : decode cX0_booths 11 = .ok (.ifCond .eq 10, 3) := dk_153 0 10 (dk_at dksX0_booths_0 11 rfl rfl)
theorem dX0_booths_14 : decode cX0_booths 14 = .ok (.aload_n 0, 1) := dk_42 (dk_at dksX0_booths_0 14 rfl rfl)
theorem dX0_booths_15 : decode cX0_booths 15 = .ok (.invokevirtual 391, 3) := dk_182 1 135 (dk_at dksX0_booths_0 15 rfl rfl)
theorem dX0_booths_18 : decode cX0_booths 18 = .ok (.ifCond .ne 5, 3) := dk_154 0 5 (dk_at dksX0_booths_0 18 rfl rfl)
theorem dX0_booths_21 : decode cX0_booths 21 = .ok (.iconst (-1), 1) := dk_2 (dk_at dksX0_booths_0 21 rfl rfl)
theorem dX0_booths_22 : decode cX0_booths 22 = .ok (.ireturn, 1) := dk_172 (dk_at dksX0_booths_0 22 rfl rfl)
theorem dX0_booths_23 : decode cX0_booths 23 = .ok (.aload_n 0, 1) := dk_42 (dk_at dksX0_booths_0 23 rfl rfl)
theorem dX0_booths_24 : decode cX0_booths 24 = .ok (.iload_n 1, 1) := dk_27 (dk_at dksX0_booths_1 0 rfl rfl)
theorem dX0_booths_25 : decode cX0_booths 25 = .ok (.iload_n 2, 1) := dk_28 (dk_at dksX0_booths_1 1 rfl rfl)
theorem dX0_booths_26 : decode cX0_booths 26 = .ok (.invokevirtual 395, 3) := dk_182 1 139 (dk_at dksX0_booths_1 2 rfl rfl)
theorem dX0_booths_29 : decode cX0_booths 29 = .ok (.iconst (-1), 1) := dk_2 (dk_at dksX0_booths_1 5 rfl rfl)
theorem dX0_booths_30 : decode cX0_booths 30 = .ok (.istore_n 3, 1) := dk_62 (dk_at dksX0_booths_1 6 rfl rfl)
theorem dX0_booths_31 : decode cX0_booths 31 = .ok (.iconst 0, 1) := dk_3 (dk_at dksX0_booths_1 7 rfl rfl)
theorem dX0_booths_32 : decode cX0_booths 32 = .ok (.istore 4, 2) := dk_54 4 (dk_at dksX0_booths_1 8 rfl rfl)
theorem dX0_booths_34 : decode cX0_booths 34 = .ok (.iconst 0, 1) := dk_3 (dk_at dksX0_booths_1 10 rfl rfl)
theorem dX0_booths_35 : decode cX0_booths 35 = .ok (.istore 5, 2) := dk_54 5 (dk_at dksX0_booths_1 11 rfl rfl)
theorem dX0_booths_37 : decode cX0_booths 37 = .ok (.iload 5, 2) := dk_21 5 (dk_at dksX0_booths_1 13 rfl rfl)
theorem dX0_booths_39 : decode cX0_booths 39 = .ok (.aload_n 0, 1) := dk_42 (dk_at dksX0_booths_1 15 rfl rfl)
theorem dX0_booths_40 : decode cX0_booths 40 = .ok (.getfield 379, 3) := dk_180 1 123 (dk_at dksX0_booths_1 16 rfl rfl)
theorem dX0_booths_43 : decode cX0_booths 43 = .ok (.if_icmp .gt 100, 3) := dk_163 0 100 (dk_at dksX0_booths_1 19 rfl rfl)
theorem dX0_booths_46 : decode cX0_booths 46 = .ok (.iload_n 3, 1) := dk_29 (dk_at dksX0_booths_1 22 rfl rfl)
theorem dX0_booths_47 : decode cX0_booths 47 = .ok (.iconst (-1), 1) := dk_2 (dk_at dksX0_booths_1 23 rfl rfl)
theorem dX0_booths_48 : decode cX0_booths 48 = .ok (.if_icmp .ne 95, 3) := dk_160 0 95 (dk_at dksX0_booths_2 0 rfl rfl)
theorem dX0_booths_51 : decode cX0_booths 51 = .ok (.iconst 0, 1) := dk_3 (dk_at dksX0_booths_2 3 rfl rfl)
theorem dX0_booths_52 : decode cX0_booths 52 = .ok (.istore 6, 2) := dk_54 6 (dk_at dksX0_booths_2 4 rfl rfl)
theorem dX0_booths_54 : decode cX0_booths 54 = .ok (.iload 6, 2) := dk_21 6 (dk_at dksX0_booths_2 6 rfl rfl)
theorem dX0_booths_56 : decode cX0_booths 56 = .ok (.iconst 1, 1) := dk_4 (dk_at dksX0_booths_2 8 rfl rfl)
theorem dX0_booths_57 : decode cX0_booths 57 = .ok (.aload_n 0, 1) := dk_42 (dk_at dksX0_booths_2 9 rfl rfl)
theorem dX0_booths_58 : decode cX0_booths 58 = .ok (.getfield 379, 3) := dk_180 1 123 (dk_at dksX0_booths_2 10 rfl rfl)
theorem dX0_booths_61 : decode cX0_booths 61 = .ok (.ishl, 1) := dk_120 (dk_at dksX0_booths_2 13 rfl rfl)
theorem dX0_booths_62 : decode cX0_booths 62 = .ok (.if_icmp .ge 75, 3) := dk_162 0 75 (dk_at dksX0_booths_2 14 rfl rfl)
theorem dX0_booths_65 : decode cX0_booths 65 = .ok (.iload 6, 2) := dk_21 6 (dk_at dksX0_booths_2 17 rfl rfl)
theorem dX0_booths_67 : decode cX0_booths 67 = .ok (.invokestatic 398, 3) := dk_184 1 142 (dk_at dksX0_booths_2 19 rfl rfl)
theorem dX0_booths_70 : decode cX0_booths 70 = .ok (.iload 5, 2) := dk_21 5 (dk_at dksX0_booths_2 22 rfl rfl)
theorem dX0_booths_72 : decode cX0_booths 72 = .ok (.if_icmp .eq 6, 3) := dk_159 0 6 (dk_at dksX0_booths_3 0 rfl rfl)
theorem dX0_booths_75 : decode cX0_booths 75 = .ok (.goto 56, 3) := dk_167 0 56 (dk_at dksX0_booths_3 3 rfl rfl)
theorem dX0_booths_78 : decode cX0_booths 78 = .ok (.aload_n 0, 1) := dk_42 (dk_at dksX0_booths_3 6 rfl rfl)
theorem dX0_booths_79 : decode cX0_booths 79 = .ok (.iload 6, 2) := dk_21 6 (dk_at dksX0_booths_3 7 rfl rfl)
theorem dX0_booths_81 : decode cX0_booths 81 = .ok (.invokevirtual 403, 3) := dk_182 1 147 (dk_at dksX0_booths_3 9 rfl rfl)
theorem dX0_booths_84 : decode cX0_booths 84 = .ok (.istore 7, 2) := dk_54 7 (dk_at dksX0_booths_3 12 rfl rfl)
theorem dX0_booths_86 : decode cX0_booths 86 = .ok (.iload 7, 2) := dk_21 7 (dk_at dksX0_booths_3 14 rfl rfl)
theorem dX0_booths_88 : decode cX0_booths 88 = .ok (.iconst (-1), 1) := dk_2 (dk_at dksX0_booths_3 16 rfl rfl)
theorem dX0_booths_89 : decode cX0_booths 89 = .ok (.if_icmp .eq 42, 3) := dk_159 0 42 (dk_at dksX0_booths_3 17 rfl rfl)
theorem dX0_booths_92 : decode cX0_booths 92 = .ok (.iload_n 3, 1) := dk_29 (dk_at dksX0_booths_3 20 rfl rfl)
theorem dX0_booths_93 : decode cX0_booths 93 = .ok (.iconst (-1), 1) := dk_2 (dk_at dksX0_booths_3 21 rfl rfl)
theorem dX0_booths_94 : decode cX0_booths 94 = .ok (.if_icmp .eq 13, 3) := dk_159 0 13 (dk_at dksX0_booths_4 0 rfl rfl)
theorem dX0_booths_97 : decode cX0_booths 97 = .ok (.iload 7, 2) := dk_21 7 (dk_at dksX0_booths_4 3 rfl rfl)
theorem dX0_booths_99 : decode cX0_booths 99 = .ok (.iload 4, 2) := dk_21 4 (dk_at dksX0_booths_4 5 rfl rfl)
theorem dX0_booths_101 : decode cX0_booths 101 = .ok (.if_icmp .lt 6, 3) := dk_161 0 6 (dk_at dksX0_booths_4 7 rfl rfl)
theorem dX0_booths_104 : decode cX0_booths 104 = .ok (.goto 27, 3) := dk_167 0 27 (dk_at dksX0_booths_4 10 rfl rfl)
theorem dX0_booths_107 : decode cX0_booths 107 = .ok (.iload 6, 2) := dk_21 6 (dk_at dksX0_booths_4 13 rfl rfl)
theorem dX0_booths_109 : decode cX0_booths 109 = .ok (.istore_n 3, 1) := dk_62 (dk_at dksX0_booths_4 15 rfl rfl)
theorem dX0_booths_110 : decode cX0_booths 110 = .ok (.iload 7, 2) := dk_21 7 (dk_at dksX0_booths_4 16 rfl rfl)
theorem dX0_booths_112 : decode cX0_booths 112 = .ok (.istore 4, 2) := dk_54 4 (dk_at dksX0_booths_4 18 rfl rfl)
theorem dX0_booths_114 : decode cX0_booths 114 = .ok (.aload_n 0, 1) := dk_42 (dk_at dksX0_booths_4 20 rfl rfl)
theorem dX0_booths_115 : decode cX0_booths 115 = .ok (.getfield 73, 3) := dk_180 0 73 (dk_at dksX0_booths_4 21 rfl rfl)
theorem dX0_booths_118 : decode cX0_booths 118 = .ok (.iconst 0, 1) := dk_3 (dk_at dksX0_booths_5 0 rfl rfl)
theorem dX0_booths_119 : decode cX0_booths 119 = .ok (.aload_n 0, 1) := dk_42 (dk_at dksX0_booths_5 1 rfl rfl)
theorem dX0_booths_120 : decode cX0_booths 120 = .ok (.getfield 76, 3) := dk_180 0 76 (dk_at dksX0_booths_5 2 rfl rfl)
theorem dX0_booths_123 : decode cX0_booths 123 = .ok (.iconst 0, 1) := dk_3 (dk_at dksX0_booths_5 5 rfl rfl)
theorem dX0_booths_124 : decode cX0_booths 124 = .ok (.aload_n 0, 1) := dk_42 (dk_at dksX0_booths_5 6 rfl rfl)
theorem dX0_booths_125 : decode cX0_booths 125 = .ok (.getfield 379, 3) := dk_180 1 123 (dk_at dksX0_booths_5 7 rfl rfl)
theorem dX0_booths_128 : decode cX0_booths 128 = .ok (.invokestatic 216, 3) := dk_184 0 216 (dk_at dksX0_booths_5 10 rfl rfl)
theorem dX0_booths_131 : decode cX0_booths 131 = .ok (.iinc 6 1, 3) := dk_132 6 1 (dk_at dksX0_booths_5 13 rfl rfl)
theorem dX0_booths_134 : decode cX0_booths 134 = .ok (.goto (-80), 3) := dk_167 255 176 (dk_at dksX0_booths_5 16 rfl rfl)
theorem dX0_booths_137 : decode cX0_booths 137 = .ok (.iinc 5 1, 3) := dk_132 5 1 (dk_at dksX0_booths_5 19 rfl rfl)
theorem dX0_booths_140 : decode cX0_booths 140 = .ok (.goto (-103), 3) := dk_167 255 153 (dk_at dksX0_booths_6 0 rfl rfl)
theorem dX0_booths_143 : decode cX0_booths 143 = .ok (.iload_n 3, 1) := dk_29 (dk_at dksX0_booths_6 3 rfl rfl)
theorem dX0_booths_144 : decode cX0_booths 144 = .ok (.iconst (-1), 1) := dk_2 (dk_at dksX0_booths_6 4 rfl rfl)
theorem dX0_booths_145 : decode cX0_booths 145 = .ok (.if_icmp .ne 5, 3) := dk_160 0 5 (dk_at dksX0_booths_6 5 rfl rfl)
theorem dX0_booths_148 : decode cX0_booths 148 = .ok (.iconst (-1), 1) := dk_2 (dk_at dksX0_booths_6 8 rfl rfl)
theorem dX0_booths_149 : decode cX0_booths 149 = .ok (.ireturn, 1) := dk_172 (dk_at dksX0_booths_6 9 rfl rfl)
theorem dX0_booths_150 : decode cX0_booths 150 = .ok (.aload_n 0, 1) := dk_42 (dk_at dksX0_booths_6 10 rfl rfl)
theorem dX0_booths_151 : decode cX0_booths 151 = .ok (.aload_n 0, 1) := dk_42 (dk_at dksX0_booths_6 11 rfl rfl)
theorem dX0_booths_152 : decode cX0_booths 152 = .ok (.getfield 379, 3) := dk_180 1 123 (dk_at dksX0_booths_6 12 rfl rfl)
theorem dX0_booths_155 : decode cX0_booths 155 = .ok (.putfield 79, 3) := dk_181 0 79 (dk_at dksX0_booths_6 15 rfl rfl)
theorem dX0_booths_158 : decode cX0_booths 158 = .ok (.aload_n 0, 1) := dk_42 (dk_at dksX0_booths_6 18 rfl rfl)
theorem dX0_booths_159 : decode cX0_booths 159 = .ok (.iload 4, 2) := dk_21 4 (dk_at dksX0_booths_6 19 rfl rfl)
theorem dX0_booths_161 : decode cX0_booths 161 = .ok (.putfield 406, 3) := dk_181 1 150 (dk_at dksX0_booths_6 21 rfl rfl)
theorem dX0_booths_164 : decode cX0_booths 164 = .ok (.iload_n 3, 1) := dk_29 (dk_at dksX0_booths_7 0 rfl rfl)
theorem dX0_booths_165 : decode cX0_booths 165 = .ok (.ireturn, 1) := dk_172 (dk_at dksX0_booths_7 1 rfl rfl)
def dkwX0_areThere_1 : List UInt8 := [172, 132, 1, 1, 167, 255, 230, 4, 172]
abbrev dktX0_areThere_1 : List UInt8 := dkwX0_areThere_1 ++ []
def dkwX0_areThere_0 : List UInt8 := [3, 60, 27, 42, 180, 1, 123, 162, 0, 24, 42, 42, 180, 0, 51, 27, 46, 182, 0, 204, 154, 0, 5, 3]
abbrev dktX0_areThere_0 : List UInt8 := dkwX0_areThere_0 ++ dktX0_areThere_1
theorem dksX0_areThere_0 : cX0_areThere.data.toList.drop 0 = dktX0_areThere_0 := by decide +kernel
theorem dksX0_areThere_1 : cX0_areThere.data.toList.drop 24 = dktX0_areThere_1 := dk_seg dksX0_areThere_0 24 rfl rfl
theorem dX0_areThere_0 : decode cX0_areThere 0 = .ok (.iconst 0, 1) := dk_3 (dk_at dksX0_areThere_0 0 rfl rfl)
theorem dX0_areThere_1 : decode cX0_areThere 1 = .ok (.istore_n 1, 1) := dk_60 (dk_at dksX0_areThere_0 1 rfl rfl)
theorem dX0_areThere_2 : decode cX0_areThere 2 = .ok (.iload_n 1, 1) := dk_27 (dk_at dksX0_areThere_0 2 rfl rfl)
theorem dX0_areThere_3 : decode cX0_areThere 3 = .ok (.aload_n 0, 1) := dk_42 (dk_at dksX0_areThere_0 3 rfl rfl)
theorem dX0_areThere_4 : decode cX0_areThere 4 = .ok (.getfield 379, 3) := dk_180 1 123 (dk_at dksX0_areThere_0 4 rfl rfl)
theorem dX0_areThere_7 : decode cX0_areThere 7 = .ok (.if_icmp .ge 24, 3) := dk_162 0 24 (dk_at dksX0_areThere_0 7 rfl rfl)
theorem dX0_areThere_10 : decode cX0_areThere 10 = .ok (.aload_n 0, 1) := dk_42 (dk_at dksX0_areThere_0 10 rfl rfl)
theorem dX0_areThere_11 : decode cX0_areThere 11 = .ok (.aload_n 0, 1) := dk_42 (dk_at dksX0_areThere_0 11 rfl rfl)
theorem dX0_areThere_12 : decode cX0_areThere 12 = .ok (.getfield 51, 3) := dk_180 0 51 (dk_at dksX0_areThere_0 12 rfl rfl)
theorem dX0_areThere_15 : decode cX0_areThere 15 = .ok (.iload_n 1, 1) := dk_27 (dk_at dksX0_areThere_0 15 rfl rfl)
theorem dX0_areThere_16 : decode cX0_areThere 16 = .ok (.iaload, 1) := dk_46 (dk_at dksX0_areThere_0 16 rfl rfl)
theorem dX0_areThere_17 : decode cX0_areThere 17 = .ok (.invokevirtual 204, 3) := dk_182 0 204 (dk_at dksX0_areThere_0 17 rfl rfl)
theorem dX0_areThere_20 : decode cX0_areThere 20 = .ok (.ifCond .ne 5, 3) := dk_154 0 5 (dk_at dksX0_areThere_0 20 rfl rfl)
theorem dX0_areThere_23 : decode cX0_areThere 23 = .ok (.iconst 0, 1) := dk_3 (dk_at dksX0_areThere_0 23 rfl rfl)
theorem dX0_areThere_24 : decode cX0_areThere 24 = .ok (.ireturn, 1) := dk_172 (dk_at dksX0_areThere_1 0 rfl rfl)
theorem dX0_areThere_25 : decode cX0_areThere 25 = .ok (.iinc 1 1, 3) := dk_132 1 1 (dk_at dksX0_areThere_1 1 rfl rfl)
theorem dX0_areThere_28 : decode cX0_areThere 28 = .ok (.goto (-26), 3) := dk_167 255 230 (dk_at dksX0_areThere_1 4 rfl rfl)
theorem dX0_areThere_31 : decode cX0_areThere 31 = .ok (.iconst 1, 1) := dk_4 (dk_at dksX0_areThere_1 7 rfl rfl)
theorem dX0_areThere_32 : decode cX0_areThere 32 = .ok (.ireturn, 1) := dk_172 (dk_at dksX0_areThere_1 8 rfl rfl)
def dkwX0_lays_2 : List UInt8 := [42, 180, 0, 51, 29, 46, 27, 17, 0, 200, 182, 1, 119, 79, 132, 3, 1, 167, 255, 202, 177]
abbrev dktX0_lays_2 : List UInt8 := dkwX0_lays_2 ++ []
def dkwX0_lays_1 : List UInt8 := [42, 8, 42, 180, 0, 51, 29, 46, 27, 17, 3, 232, 182, 1, 119, 79, 42, 180, 0, 64, 29, 42, 16, 6]
abbrev dktX0_lays_1 : List UInt8 := dkwX0_lays_1 ++ dktX0_lays_2
def dkwX0_lays_0 : List UInt8 := [42, 180, 0, 47, 27, 28, 182, 1, 91, 3, 62, 29, 42, 180, 1, 123, 162, 0, 52, 42, 180, 0, 61, 29]
abbrev dktX0_lays_0 : List UInt8 := dkwX0_lays_0 ++ dktX0_lays_1
theorem dksX0_lays_0 : cX0_lays.data.toList.drop 0 = dktX0_lays_0 := by decide +kernel
theorem dksX0_lays_1 : cX0_lays.data.toList.drop 24 = dktX0_lays_1 := dk_seg dksX0_lays_0 24 rfl rfl
theorem dksX0_lays_2 : cX0_lays.data.toList.drop 48 = dktX0_lays_2 := dk_seg dksX0_lays_1 24 rfl rfl
theorem dX0_lays_0 : decode cX0_lays 0 = .ok (.aload_n 0, 1) := dk_42 (dk_at dksX0_lays_0 0 rfl rfl)
theorem dX0_lays_1 : decode cX0_lays 1 = .ok (.getfield 47, 3) := dk_180 0 47 (dk_at dksX0_lays_0 1 rfl rfl)
theorem dX0_lays_4 : decode cX0_lays 4 = .ok (.iload_n 1, 1) := dk_27 (dk_at dksX0_lays_0 4 rfl rfl)
theorem dX0_lays_5 : decode cX0_lays 5 = .ok (.iload_n 2, 1) := dk_28 (dk_at dksX0_lays_0 5 rfl rfl)
theorem dX0_lays_6 : decode cX0_lays 6 = .ok (.invokevirtual 347, 3) := dk_182 1 91 (dk_at dksX0_lays_0 6 rfl rfl)
theorem dX0_lays_9 : decode cX0_lays 9 = .ok (.iconst 0, 1) := dk_3 (dk_at dksX0_lays_0 9 rfl rfl)
theorem dX0_lays_10 : decode cX0_lays 10 = .ok (.istore_n 3, 1) := dk_62 (dk_at dksX0_lays_0 10 rfl rfl)
theorem dX0_lays_11 : decode cX0_lays 11 = .ok (.iload_n 3, 1) := dk_29 (dk_at dksX0_lays_0 11 rfl rfl)
theorem dX0_lays_12 : decode cX0_lays 12 = .ok (.aload_n 0, 1) := dk_42 (dk_at dksX0_lays_0 12 rfl rfl)
theorem dX0_lays_13 : decode cX0_lays 13 = .ok (.getfield 379, 3) := dk_180 1 123 (dk_at dksX0_lays_0 13 rfl rfl)
theorem dX0_lays_16 : decode cX0_lays 16 = .ok (.if_icmp .ge 52, 3) := dk_162 0 52 (dk_at dksX0_lays_0 16 rfl rfl)
theorem dX0_lays_19 : decode cX0_lays 19 = .ok (.aload_n 0, 1) := dk_42 (dk_at dksX0_lays_0 19 rfl rfl)
theorem dX0_lays_20 : decode cX0_lays 20 = .ok (.getfield 61, 3) := dk_180 0 61 (dk_at dksX0_lays_0 20 rfl rfl)
theorem dX0_lays_23 : decode cX0_lays 23 = .ok (.iload_n 3, 1) := dk_29 (dk_at dksX0_lays_0 23 rfl rfl)
theorem dX0_lays_24 : decode cX0_lays 24 = .ok (.aload_n 0, 1) := dk_42 (dk_at dksX0_lays_1 0 rfl rfl)
theorem dX0_lays_25 : decode cX0_lays 25 = .ok (.iconst 5, 1) := dk_8 (dk_at dksX0_lays_1 1 rfl rfl)
theorem dX0_lays_26 : decode cX0_lays 26 = .ok (.aload_n 0, 1) := dk_42 (dk_at dksX0_lays_1 2 rfl rfl)
theorem dX0_lays_27 : decode cX0_lays 27 = .ok (.getfield 51, 3) := dk_180 0 51 (dk_at dksX0_lays_1 3 rfl rfl)
theorem dX0_lays_30 : decode cX0_lays 30 = .ok (.iload_n 3, 1) := dk_29 (dk_at dksX0_lays_1 6 rfl rfl)
theorem dX0_lays_31 : decode cX0_lays 31 = .ok (.iaload, 1) := dk_46 (dk_at dksX0_lays_1 7 rfl rfl)
theorem dX0_lays_32 : decode cX0_lays 32 = .ok (.iload_n 1, 1) := dk_27 (dk_at dksX0_lays_1 8 rfl rfl)
theorem dX0_lays_33 : decode cX0_lays 33 = .ok (.sipush 1000, 3) := dk_17 3 232 (dk_at dksX0_lays_1 9 rfl rfl)
theorem dX0_lays_36 : decode cX0_lays 36 = .ok (.invokevirtual 375, 3) := dk_182 1 119 (dk_at dksX0_lays_1 12 rfl rfl)
theorem dX0_lays_39 : decode cX0_lays 39 = .ok (.iastore, 1) := dk_79 (dk_at dksX0_lays_1 15 rfl rfl)
theorem dX0_lays_40 : decode cX0_lays 40 = .ok (.aload_n 0, 1) := dk_42 (dk_at dksX0_lays_1 16 rfl rfl)
theorem dX0_lays_41 : decode cX0_lays 41 = .ok (.getfield 64, 3) := dk_180 0 64 (dk_at dksX0_lays_1 17 rfl rfl)
theorem dX0_lays_44 : decode cX0_lays 44 = .ok (.iload_n 3, 1) := dk_29 (dk_at dksX0_lays_1 20 rfl rfl)
theorem dX0_lays_45 : decode cX0_lays 45 = .ok (.aload_n 0, 1) := dk_42 (dk_at dksX0_lays_1 21 rfl rfl)
theorem dX0_lays_46 : decode cX0_lays 46 = .ok (.bipush 6, 2) := dk_16 6 (dk_at dksX0_lays_1 22 rfl rfl)
theorem dX0_lays_48 : decode cX0_lays 48 = .ok (.aload_n 0, 1) := dk_42 (dk_at dksX0_lays_2 0 rfl rfl)
theorem dX0_lays_49 : decode cX0_lays 49 = .ok (.getfield 51, 3) := dk_180 0 51 (dk_at dksX0_lays_2 1 rfl rfl)
theorem dX0_lays_52 : decode cX0_lays 52 = .ok (.iload_n 3, 1) := dk_29 (dk_at dksX0_lays_2 4 rfl rfl)
theorem dX0_lays_53 : decode cX0_lays 53 = .ok (.iaload, 1) := dk_46 (dk_at dksX0_lays_2 5 rfl rfl)
theorem dX0_lays_54 : decode cX0_lays 54 = .ok (.iload_n 1, 1) := dk_27 (dk_at dksX0_lays_2 6 rfl rfl)
theorem dX0_lays_55 : decode cX0_lays 55 = .ok (.sipush 200, 3) := dk_17 0 200 (dk_at dksX0_lays_2 7 rfl rfl)
theorem dX0_lays_58 : decode cX0_lays 58 = .ok (.invokevirtual 375, 3) := dk_182 1 119 (dk_at dksX0_lays_2 10 rfl rfl)
theorem dX0_lays_61 : decode cX0_lays 61 = .ok (.iastore, 1) := dk_79 (dk_at dksX0_lays_2 13 rfl rfl)
theorem dX0_lays_62 : decode cX0_lays 62 = .ok (.iinc 3 1, 3) := dk_132 3 1 (dk_at dksX0_lays_2 14 rfl rfl)
theorem dX0_lays_65 : decode cX0_lays 65 = .ok (.goto (-54), 3) := dk_167 255 202 (dk_at dksX0_lays_2 17 rfl rfl)
theorem dX0_lays_68 : decode cX0_lays 68 = .ok (.return_, 1) := dk_177 (dk_at dksX0_lays_2 20 rfl rfl)
def dkwX0_sumOf_1 : List UInt8 := [132, 2, 1, 167, 255, 238, 42, 3, 27, 3, 182, 1, 131, 42, 180, 1, 126, 172]
abbrev dktX0_sumOf_1 : List UInt8 := dkwX0_sumOf_1 ++ []
def dkwX0_sumOf_0 : List UInt8 := [42, 2, 181, 1, 126, 3, 61, 28, 42, 180, 1, 123, 162, 0, 16, 42, 180, 0, 67, 28, 3, 79]
abbrev dktX0_sumOf_0 : List UInt8 := dkwX0_sumOf_0 ++ dktX0_sumOf_1
theorem dksX0_sumOf_0 : cX0_sumOf.data.toList.drop 0 = dktX0_sumOf_0 := by decide +kernel
theorem dksX0_sumOf_1 : cX0_sumOf.data.toList.drop 22 = dktX0_sumOf_1 := dk_seg dksX0_sumOf_0 22 rfl rfl
theorem dX0_sumOf_0 : decode cX0_sumOf 0 = .ok (.aload_n 0, 1) := dk_42 (dk_at dksX0_sumOf_0 0 rfl rfl)
theorem dX0_sumOf_1 : decode cX0_sumOf 1 = .ok (.iconst (-1), 1) := dk_2 (dk_at dksX0_sumOf_0 1 rfl rfl)
theorem dX0_sumOf_2 : decode cX0_sumOf 2 = .ok (.putfield 382, 3) := dk_181 1 126 (dk_at dksX0_sumOf_0 2 rfl rfl)
theorem dX0_sumOf_5 : decode cX0_sumOf 5 = .ok (.iconst 0, 1) := dk_3 (dk_at dksX0_sumOf_0 5 rfl rfl)
theorem dX0_sumOf_6 : decode cX0_sumOf 6 = .ok (.istore_n 2, 1) := dk_61 (dk_at dksX0_sumOf_0 6 rfl rfl)
theorem dX0_sumOf_7 : decode cX0_sumOf 7 = .ok (.iload_n 2, 1) := dk_28 (dk_at dksX0_sumOf_0 7 rfl rfl)
theorem dX0_sumOf_8 : decode cX0_sumOf 8 = .ok (.aload_n 0, 1) := dk_42 (dk_at dksX0_sumOf_0 8 rfl rfl)
theorem dX0_sumOf_9 : decode cX0_sumOf 9 = .ok (.getfield 379, 3) := dk_180 1 123 (dk_at dksX0_sumOf_0 9 rfl rfl)
theorem dX0_sumOf_12 : decode cX0_sumOf 12 = .ok (.if_icmp .ge 16, 3) := dk_162 0 16 (dk_at dksX0_sumOf_0 12 rfl rfl)
theorem dX0_sumOf_15 : decode cX0_sumOf 15 = .ok (.aload_n 0, 1) := dk_42 (dk_at dksX0_sumOf_0 15 rfl rfl)
theorem dX0_sumOf_16 : decode cX0_sumOf 16 = .ok (.getfield 67, 3) := dk_180 0 67 (dk_at dksX0_sumOf_0 16 rfl rfl)
theorem dX0_sumOf_19 : decode cX0_sumOf 19 = .ok (.iload_n 2, 1) := dk_28 (dk_at dksX0_sumOf_0 19 rfl rfl)
theorem dX0_sumOf_20 : decode cX0_sumOf 20 = .ok (.iconst 0, 1) := dk_3 (dk_at dksX0_sumOf_0 20 rfl rfl)
theorem dX0_sumOf_21 : decode cX0_sumOf 21 = .ok (.iastore, 1) := dk_79 (dk_at dksX0_sumOf_0 21 rfl rfl)
theorem dX0_sumOf_22 : decode cX0_sumOf 22 = .ok (.iinc 2 1, 3) := dk_132 2 1 (dk_at dksX0_sumOf_1 0 rfl rfl)
theorem dX0_sumOf_25 : decode cX0_sumOf 25 = .ok (.goto (-18), 3) := dk_167 255 238 (dk_at dksX0_sumOf_1 3 rfl rfl)
theorem dX0_sumOf_28 : decode cX0_sumOf 28 = .ok (.aload_n 0, 1) := dk_42 (dk_at dksX0_sumOf_1 6 rfl rfl)
theorem dX0_sumOf_29 : decode cX0_sumOf 29 = .ok (.iconst 0, 1) := dk_3 (dk_at dksX0_sumOf_1 7 rfl rfl)
theorem dX0_sumOf_30 : decode cX0_sumOf 30 = .ok (.iload_n 1, 1) := dk_27 (dk_at dksX0_sumOf_1 8 rfl rfl)
theorem dX0_sumOf_31 : decode cX0_sumOf 31 = .ok (.iconst 0, 1) := dk_3 (dk_at dksX0_sumOf_1 9 rfl rfl)
theorem dX0_sumOf_32 : decode cX0_sumOf 32 = .ok (.invokevirtual 387, 3) := dk_182 1 131 (dk_at dksX0_sumOf_1 10 rfl rfl)
theorem dX0_sumOf_35 : decode cX0_sumOf 35 = .ok (.aload_n 0, 1) := dk_42 (dk_at dksX0_sumOf_1 13 rfl rfl)
theorem dX0_sumOf_36 : decode cX0_sumOf 36 = .ok (.getfield 382, 3) := dk_180 1 126 (dk_at dksX0_sumOf_1 14 rfl rfl)
theorem dX0_sumOf_39 : decode cX0_sumOf 39 = .ok (.ireturn, 1) := dk_172 (dk_at dksX0_sumOf_1 17 rfl rfl)
def dkwX0_leads_8 : List UInt8 := [132, 5, 1, 167, 255, 135, 177]
abbrev dktX0_leads_8 : List UInt8 := dkwX0_leads_8 ++ []
def dkwX0_leads_7 : List UInt8 := [27, 4, 96, 28, 29, 21, 6, 96, 182, 1, 131, 42, 180, 0, 67, 21, 5, 92, 46, 21, 4, 100, 79]
abbrev dktX0_leads_7 : List UInt8 := dkwX0_leads_7 ++ dktX0_leads_8
def dkwX0_leads_6 : List UInt8 := [167, 0, 47, 42, 180, 0, 67, 21, 5, 92, 46, 21, 4, 96, 79, 42, 180, 0, 70, 27, 21, 5, 79, 42]
abbrev dktX0_leads_6 : List UInt8 := dkwX0_leads_6 ++ dktX0_leads_7
def dkwX0_leads_5 : List UInt8 := [46, 163, 0, 70, 42, 180, 0, 67, 21, 5, 46, 21, 4, 96, 42, 180, 0, 61, 21, 5, 46, 164, 0, 6]
abbrev dktX0_leads_5 : List UInt8 := dkwX0_leads_5 ++ dktX0_leads_6
def dkwX0_leads_4 : List UInt8 := [21, 5, 46, 182, 1, 129, 54, 6, 28, 21, 5, 122, 4, 126, 153, 0, 81, 21, 6, 42, 180, 0, 64, 27]
abbrev dktX0_leads_4 : List UInt8 := dkwX0_leads_4 ++ dktX0_leads_5
def dkwX0_leads_3 : List UInt8 := [21, 5, 42, 180, 1, 123, 162, 0, 118, 42, 180, 0, 10, 42, 180, 0, 51, 27, 46, 42, 180, 0, 51]
abbrev dktX0_leads_3 : List UInt8 := dkwX0_leads_3 ++ dktX0_leads_4
def dkwX0_leads_2 : List UInt8 := [184, 0, 216, 177, 42, 180, 0, 47, 180, 1, 88, 42, 180, 0, 51, 27, 46, 46, 54, 4, 3, 54, 5]
abbrev dktX0_leads_2 : List UInt8 := dkwX0_leads_2 ++ dktX0_leads_3
def dkwX0_leads_1 : List UInt8 := [160, 0, 26, 42, 29, 181, 1, 126, 42, 180, 0, 70, 3, 42, 180, 0, 73, 3, 42, 180, 1, 123]
abbrev dktX0_leads_1 : List UInt8 := dkwX0_leads_1 ++ dktX0_leads_2
def dkwX0_leads_0 : List UInt8 := [42, 180, 1, 126, 2, 159, 0, 12, 29, 42, 180, 1, 126, 161, 0, 4, 177, 27, 42, 180, 1, 123]
abbrev dktX0_leads_0 : List UInt8 := dkwX0_leads_0 ++ dktX0_leads_1
theorem dksX0_leads_0 : cX0_leads.data.toList.drop 0 = dktX0_leads_0 := by decide +kernel
theorem dksX0_leads_1 : cX0_leads.data.toList.drop 22 = dktX0_leads_1 := dk_seg dksX0_leads_0 22 rfl rfl
theorem dksX0_leads_2 : cX0_leads.data.toList.drop 44 = dktX0_leads_2 := dk_seg dksX0_leads_1 22 rfl rfl
theorem dksX0_leads_3 : cX0_leads.data.toList.drop 67 = dktX0_leads_3 := dk_seg dksX0_leads_2 23 rfl rfl
theorem dksX0_leads_4 : cX0_leads.data.toList.drop 90 = dktX0_leads_4 := dk_seg dksX0_leads_3 23 rfl rfl
theorem dksX0_leads_5 : cX0_leads.data.toList.drop 114 = dktX0_leads_5 := dk_seg dksX0_leads_4 24 rfl rfl
theorem dksX0_leads_6 : cX0_leads.data.toList.drop 138 = dktX0_leads_6 := dk_seg dksX0_leads_5 24 rfl rfl
theorem dksX0_leads_7 : cX0_leads.data.toList.drop 162 = dktX0_leads_7 := dk_seg dksX0_leads_6 24 rfl rfl
theorem dksX0_leads_8 : cX0_leads.data.toList.drop 185 = dktX0_leads_8 := dk_seg dksX0_leads_7 23 rfl rfl
theorem dX0_leads_0 : decode cX0_leads 0 = .ok (.aload_n 0, 1) := dk_42 (dk_at dksX0_leads_0 0 rfl rfl)
theorem dX0_leads_1 : decode cX0_leads 1 = .ok (.getfield 382, 3) := dk_180 1 126 (dk_at dksX0_leads_0 1 rfl rfl)
theorem dX0_leads_4 : decode cX0_leads 4 = .ok (.iconst (-1), 1) := dk_2 (dk_at dksX0_leads_0 4 rfl rfl)
theorem dX0_leads_5 : decode cX0_leads 5 = .ok (.if_icmp .eq 12, 3) := dk_159 0 12 (dk_at dksX0_leads_0 5 rfl rfl)
theorem dX0_leads_8 : decode cX0_leads 8 = .ok (.iload_n 3, 1) := dk_29 (dk_at dksX0_leads_0 8 rfl rfl)
theorem dX0_leads_9 : decode cX0_leads 9 = .ok (.aload_n 0, 1) := dk_42 (dk_at dksX0_leads_0 9 rfl rfl)
theorem dX0_leads_10 : decode cX0_leads 10 = .ok (.getfield 382, 3) := dk_180 1 126 (dk_at dksX0_leads_0 10 rfl rfl)
theorem dX0_leads_13 : decode cX0_leads 13 = .ok (.if_icmp .lt 4, 3) := dk_161 0 4 (dk_at dksX0_leads_0 13 rfl rfl)
theorem dX0_leads_16 : decode cX0_leads 16 = .ok (.return_, 1) := dk_177 (dk_at dksX0_leads_0 16 rfl rfl)
theorem dX0_leads_17 : decode cX0_leads 17 = .ok (.iload_n 1, 1) := dk_27 (dk_at dksX0_leads_0 17 rfl rfl)
theorem dX0_leads_18 : decode cX0_leads 18 = .ok (.aload_n 0, 1) := dk_42 (dk_at dksX0_leads_0 18 rfl rfl)
theorem dX0_leads_19 : decode cX0_leads 19 = .ok (.getfield 379, 3) := dk_180 1 123 (dk_at dksX0_leads_0 19 rfl rfl)
theorem dX0_leads_22 : decode cX0_leads 22 = .ok (.if_icmp .ne 26, 3) := dk_160 0 26 (dk_at dksX0_leads_1 0 rfl rfl)
theorem dX0_leads_25 : decode cX0_leads 25 = .ok (.aload_n 0, 1) := dk_42 (dk_at dksX0_leads_1 3 rfl rfl)
theorem dX0_leads_26 : decode cX0_leads 26 = .ok (.iload_n 3, 1) := dk_29 (dk_at dksX0_leads_1 4 rfl rfl)
theorem dX0_leads_27 : decode cX0_leads 27 = .ok (.putfield 382, 3) := dk_181 1 126 (dk_at dksX0_leads_1 5 rfl rfl)
theorem dX0_leads_30 : decode cX0_leads 30 = .ok (.aload_n 0, 1) := dk_42 (dk_at dksX0_leads_1 8 rfl rfl)
theorem dX0_leads_31 : decode cX0_leads 31 = .ok (.getfield 70, 3) := dk_180 0 70 (dk_at dksX0_leads_1 9 rfl rfl)
theorem dX0_leads_34 : decode cX0_leads 34 = .ok (.iconst 0, 1) := dk_3 (dk_at dksX0_leads_1 12 rfl rfl)
theorem dX0_leads_35 : decode cX0_leads 35 = .ok (.aload_n 0, 1) := dk_42 (dk_at dksX0_leads_1 13 rfl rfl)
theorem dX0_leads_36 : decode cX0_leads 36 = .ok (.getfield 73, 3) := dk_180 0 73 (dk_at dksX0_leads_1 14 rfl rfl)
theorem dX0_leads_39 : decode cX0_leads 39 = .ok (.iconst 0, 1) := dk_3 (dk_at dksX0_leads_1 17 rfl rfl)
theorem dX0_leads_40 : decode cX0_leads 40 = .ok (.aload_n 0, 1) := dk_42 (dk_at dksX0_leads_1 18 rfl rfl)
theorem dX0_leads_41 : decode cX0_leads 41 = .ok (.getfield 379, 3) := dk_180 1 123 (dk_at dksX0_leads_1 19 rfl rfl)
theorem dX0_leads_44 : decode cX0_leads 44 = .ok (.invokestatic 216, 3) := dk_184 0 216 (dk_at dksX0_leads_2 0 rfl rfl)
theorem dX0_leads_47 : decode cX0_leads 47 = .ok (.return_, 1) := dk_177 (dk_at dksX0_leads_2 3 rfl rfl)
theorem dX0_leads_48 : decode cX0_leads 48 = .ok (.aload_n 0, 1) := dk_42 (dk_at dksX0_leads_2 4 rfl rfl)
theorem dX0_leads_49 : decode cX0_leads 49 = .ok (.getfield 47, 3) := dk_180 0 47 (dk_at dksX0_leads_2 5 rfl rfl)
theorem dX0_leads_52 : decode cX0_leads 52 = .ok (.getfield 344, 3) := dk_180 1 88 (dk_at dksX0_leads_2 8 rfl rfl)
theorem dX0_leads_55 : decode cX0_leads 55 = .ok (.aload_n 0, 1) := dk_42 (dk_at dksX0_leads_2 11 rfl rfl)
theorem dX0_leads_56 : decode cX0_leads 56 = .ok (.getfield 51, 3) := dk_180 0 51 (dk_at dksX0_leads_2 12 rfl rfl)
theorem dX0_leads_59 : decode cX0_leads 59 = .ok (.iload_n 1, 1) := dk_27 (dk_at dksX0_leads_2 15 rfl rfl)
theorem dX0_leads_60 : decode cX0_leads 60 = .ok (.iaload, 1) := dk_46 (dk_at dksX0_leads_2 16 rfl rfl)
theorem dX0_leads_61 : decode cX0_leads 61 = .ok (.iaload, 1) := dk_46 (dk_at dksX0_leads_2 17 rfl rfl)
theorem dX0_leads_62 : decode cX0_leads 62 = .ok (.istore 4, 2) := dk_54 4 (dk_at dksX0_leads_2 18 rfl rfl)
theorem dX0_leads_64 : decode cX0_leads 64 = .ok (.iconst 0, 1) := dk_3 (dk_at dksX0_leads_2 20 rfl rfl)
theorem dX0_leads_65 : decode cX0_leads 65 = .ok (.istore 5, 2) := dk_54 5 (dk_at dksX0_leads_2 21 rfl rfl)
theorem dX0_leads_67 : decode cX0_leads 67 = .ok (.iload 5, 2) := dk_21 5 (dk_at dksX0_leads_3 0 rfl rfl)
theorem dX0_leads_69 : decode cX0_leads 69 = .ok (.aload_n 0, 1) := dk_42 (dk_at dksX0_leads_3 2 rfl rfl)
theorem dX0_leads_70 : decode cX0_leads 70 = .ok (.getfield 379, 3) := dk_180 1 123 (dk_at dksX0_leads_3 3 rfl rfl)
theorem dX0_leads_73 : decode cX0_leads 73 = .ok (.if_icmp .ge 118, 3) := dk_162 0 118 (dk_at dksX0_leads_3 6 rfl rfl)
theorem dX0_leads_76 : decode cX0_leads 76 = .ok (.aload_n 0, 1) := dk_42 (dk_at dksX0_leads_3 9 rfl rfl)
theorem dX0_leads_77 : decode cX0_leads 77 = .ok (.getfield 10, 3) := dk_180 0 10 (dk_at dksX0_leads_3 10 rfl rfl)
theorem dX0_leads_80 : decode cX0_leads 80 = .ok (.aload_n 0, 1) := dk_42 (dk_at dksX0_leads_3 13 rfl rfl)
theorem dX0_leads_81 : decode cX0_leads 81 = .ok (.getfield 51, 3) := dk_180 0 51 (dk_at dksX0_leads_3 14 rfl rfl)
theorem dX0_leads_84 : decode cX0_leads 84 = .ok (.iload_n 1, 1) := dk_27 (dk_at dksX0_leads_3 17 rfl rfl)
theorem dX0_leads_85 : decode cX0_leads 85 = .ok (.iaload, 1) := dk_46 (dk_at dksX0_leads_3 18 rfl rfl)
theorem dX0_leads_86 : decode cX0_leads 86 = .ok (.aload_n 0, 1) := dk_42 (dk_at dksX0_leads_3 19 rfl rfl)
theorem dX0_leads_87 : decode cX0_leads 87 = .ok (.getfield 51, 3) := dk_180 0 51 (dk_at dksX0_leads_3 20 rfl rfl)
theorem dX0_leads_90 : decode cX0_leads 90 = .ok (.iload 5, 2) := dk_21 5 (dk_at dksX0_leads_4 0 rfl rfl)
theorem dX0_leads_92 : decode cX0_leads 92 = .ok (.iaload, 1) := dk_46 (dk_at dksX0_leads_4 2 rfl rfl)
theorem dX0_leads_93 : decode cX0_leads 93 = .ok (.invokevirtual 385, 3) := dk_182 1 129 (dk_at dksX0_leads_4 3 rfl rfl)
theorem dX0_leads_96 : decode cX0_leads 96 = .ok (.istore 6, 2) := dk_54 6 (dk_at dksX0_leads_4 6 rfl rfl)
theorem dX0_leads_98 : decode cX0_leads 98 = .ok (.iload_n 2, 1) := dk_28 (dk_at dksX0_leads_4 8 rfl rfl)
theorem dX0_leads_99 : decode cX0_leads 99 = .ok (.iload 5, 2) := dk_21 5 (dk_at dksX0_leads_4 9 rfl rfl)
theorem dX0_leads_101 : decode cX0_leads 101 = .ok (.ishr, 1) := dk_122 (dk_at dksX0_leads_4 11 rfl rfl)
theorem dX0_leads_102 : decode cX0_leads 102 = .ok (.iconst 1, 1) := dk_4 (dk_at dksX0_leads_4 12 rfl rfl)
theorem dX0_leads_103 : decode cX0_leads 103 = .ok (.iand, 1) := dk_126 (dk_at dksX0_leads_4 13 rfl rfl)
theorem dX0_leads_104 : decode cX0_leads 104 = .ok (.ifCond .eq 81, 3) := dk_153 0 81 (dk_at dksX0_leads_4 14 rfl rfl)
theorem dX0_leads_107 : decode cX0_leads 107 = .ok (.iload 6, 2) := dk_21 6 (dk_at dksX0_leads_4 17 rfl rfl)
theorem dX0_leads_109 : decode cX0_leads 109 = .ok (.aload_n 0, 1) := dk_42 (dk_at dksX0_leads_4 19 rfl rfl)
theorem dX0_leads_110 : decode cX0_leads 110 = .ok (.getfield 64, 3) := dk_180 0 64 (dk_at dksX0_leads_4 20 rfl rfl)
theorem dX0_leads_113 : decode cX0_leads 113 = .ok (.iload_n 1, 1) := dk_27 (dk_at dksX0_leads_4 23 rfl rfl)
theorem dX0_leads_114 : decode cX0_leads 114 = .ok (.iaload, 1) := dk_46 (dk_at dksX0_leads_5 0 rfl rfl)
theorem dX0_leads_115 : decode cX0_leads 115 = .ok (.if_icmp .gt 70, 3) := dk_163 0 70 (dk_at dksX0_leads_5 1 rfl rfl)
theorem dX0_leads_118 : decode cX0_leads 118 = .ok (.aload_n 0, 1) := dk_42 (dk_at dksX0_leads_5 4 rfl rfl)
theorem dX0_leads_119 : decode cX0_leads 119 = .ok (.getfield 67, 3) := dk_180 0 67 (dk_at dksX0_leads_5 5 rfl rfl)
theorem dX0_leads_122 : decode cX0_leads 122 = .ok (.iload 5, 2) := dk_21 5 (dk_at dksX0_leads_5 8 rfl rfl)
theorem dX0_leads_124 : decode cX0_leads 124 = .ok (.iaload, 1) := dk_46 (dk_at dksX0_leads_5 10 rfl rfl)
theorem dX0_leads_125 : decode cX0_leads 125 = .ok (.iload 4, 2) := dk_21 4 (dk_at dksX0_leads_5 11 rfl rfl)
theorem dX0_leads_127 : decode cX0_leads 127 = .ok (.iadd, 1) := dk_96 (dk_at dksX0_leads_5 13 rfl rfl)
theorem dX0_leads_128 : decode cX0_leads 128 = .ok (.aload_n 0, 1) := dk_42 (dk_at dksX0_leads_5 14 rfl rfl)
theorem dX0_leads_129 : decode cX0_leads 129 = .ok (.getfield 61, 3) := dk_180 0 61 (dk_at dksX0_leads_5 15 rfl rfl)
theorem dX0_leads_132 : decode cX0_leads 132 = .ok (.iload 5, 2) := dk_21 5 (dk_at dksX0_leads_5 18 rfl rfl)
theorem dX0_leads_134 : decode cX0_leads 134 = .ok (.iaload, 1) := dk_46 (dk_at dksX0_leads_5 20 rfl rfl)
theorem dX0_leads_135 : decode cX0_leads 135 = .ok (.if_icmp .le 6, 3) := dk_164 0 6 (dk_at dksX0_leads_5 21 rfl rfl)
theorem dX0_leads_138 : decode cX0_leads 138 = .ok (.goto 47, 3) := dk_167 0 47 (dk_at dksX0_leads_6 0 rfl rfl)
theorem dX0_leads_141 : decode cX0_leads 141 = .ok (.aload_n 0, 1) := dk_42 (dk_at dksX0_leads_6 3 rfl rfl)
theorem dX0_leads_142 : decode cX0_leads 142 = .ok (.getfield 67, 3) := dk_180 0 67 (dk_at dksX0_leads_6 4 rfl rfl)
theorem dX0_leads_145 : decode cX0_leads 145 = .ok (.iload 5, 2) := dk_21 5 (dk_at dksX0_leads_6 7 rfl rfl)
theorem dX0_leads_147 : decode cX0_leads 147 = .ok (.dup2, 1) := dk_92 (dk_at dksX0_leads_6 9 rfl rfl)
theorem dX0_leads_148 : decode cX0_leads 148 = .ok (.iaload, 1) := dk_46 (dk_at dksX0_leads_6 10 rfl rfl)
theorem dX0_leads_149 : decode cX0_leads 149 = .ok (.iload 4, 2) := dk_21 4 (dk_at dksX0_leads_6 11 rfl rfl)
theorem dX0_leads_151 : decode cX0_leads 151 = .ok (.iadd, 1) := dk_96 (dk_at dksX0_leads_6 13 rfl rfl)
theorem dX0_leads_152 : decode cX0_leads 152 = .ok (.iastore, 1) := dk_79 (dk_at dksX0_leads_6 14 rfl rfl)
theorem dX0_leads_153 : decode cX0_leads 153 = .ok (.aload_n 0, 1) := dk_42 (dk_at dksX0_leads_6 15 rfl rfl)
theorem dX0_leads_154 : decode cX0_leads 154 = .ok (.getfield 70, 3) := dk_180 0 70 (dk_at dksX0_leads_6 16 rfl rfl)
theorem dX0_leads_157 : decode cX0_leads 157 = .ok (.iload_n 1, 1) := dk_27 (dk_at dksX0_leads_6 19 rfl rfl)
theorem dX0_leads_158 : decode cX0_leads 158 = .ok (.iload 5, 2) := dk_21 5 (dk_at dksX0_leads_6 20 rfl rfl)
theorem dX0_leads_160 : decode cX0_leads 160 = .ok (.iastore, 1) := dk_79 (dk_at dksX0_leads_6 22 rfl rfl)
theorem dX0_leads_161 : decode cX0_leads 161 = .ok (.aload_n 0, 1) := dk_42 (dk_at dksX0_leads_6 23 rfl rfl)
theorem dX0_leads_162 : decode cX0_leads 162 = .ok (.iload_n 1, 1) := dk_27 (dk_at dksX0_leads_7 0 rfl rfl)
theorem dX0_leads_163 : decode cX0_leads 163 = .ok (.iconst 1, 1) := dk_4 (dk_at dksX0_leads_7 1 rfl rfl)
theorem dX0_leads_164 : decode cX0_leads 164 = .ok (.iadd, 1) := dk_96 (dk_at dksX0_leads_7 2 rfl rfl)
theorem dX0_leads_165 : decode cX0_leads 165 = .ok (.iload_n 2, 1) := dk_28 (dk_at dksX0_leads_7 3 rfl rfl)
theorem dX0_leads_166 : decode cX0_leads 166 = .ok (.iload_n 3, 1) := dk_29 (dk_at dksX0_leads_7 4 rfl rfl)
theorem dX0_leads_167 : decode cX0_leads 167 = .ok (.iload 6, 2) := dk_21 6 (dk_at dksX0_leads_7 5 rfl rfl)
theorem dX0_leads_169 : decode cX0_leads 169 = .ok (.iadd, 1) := dk_96 (dk_at dksX0_leads_7 7 rfl rfl)
theorem dX0_leads_170 : decode cX0_leads 170 = .ok (.invokevirtual 387, 3) := dk_182 1 131 (dk_at dksX0_leads_7 8 rfl rfl)
theorem dX0_leads_173 : decode cX0_leads 173 = .ok (.aload_n 0, 1) := dk_42 (dk_at dksX0_leads_7 11 rfl rfl)
theorem dX0_leads_174 : decode cX0_leads 174 = .ok (.getfield 67, 3) := dk_180 0 67 (dk_at dksX0_leads_7 12 rfl rfl)
theorem dX0_leads_177 : decode cX0_leads 177 = .ok (.iload 5, 2) := dk_21 5 (dk_at dksX0_leads_7 15 rfl rfl)
theorem dX0_leads_179 : decode cX0_leads 179 = .ok (.dup2, 1) := dk_92 (dk_at dksX0_leads_7 17 rfl rfl)
theorem dX0_leads_180 : decode cX0_leads 180 = .ok (.iaload, 1) := dk_46 (dk_at dksX0_leads_7 18 rfl rfl)
theorem dX0_leads_181 : decode cX0_leads 181 = .ok (.iload 4, 2) := dk_21 4 (dk_at dksX0_leads_7 19 rfl rfl)
theorem dX0_leads_183 : decode cX0_leads 183 = .ok (.isub, 1) := dk_100 (dk_at dksX0_leads_7 21 rfl rfl)
theorem dX0_leads_184 : decode cX0_leads 184 = .ok (.iastore, 1) := dk_79 (dk_at dksX0_leads_7 22 rfl rfl)
theorem dX0_leads_185 : decode cX0_leads 185 = .ok (.iinc 5 1, 3) := dk_132 5 1 (dk_at dksX0_leads_8 0 rfl rfl)
theorem dX0_leads_188 : decode cX0_leads 188 = .ok (.goto (-121), 3) := dk_167 255 135 (dk_at dksX0_leads_8 3 rfl rfl)
theorem dX0_leads_191 : decode cX0_leads 191 = .ok (.return_, 1) := dk_177 (dk_at dksX0_leads_8 6 rfl rfl)
def dkwX0_led_1 : List UInt8 := [167, 0, 21, 27, 2, 160, 0, 10, 42, 180, 1, 150, 167, 0, 9, 42, 180, 0, 76, 27, 46, 172]
abbrev dktX0_led_1 : List UInt8 := dkwX0_led_1 ++ []
def dkwX0_led_0 : List UInt8 := [42, 180, 0, 79, 2, 159, 0, 17, 27, 2, 42, 180, 0, 79, 4, 100, 184, 0, 127, 154, 0, 7, 2]
abbrev dktX0_led_0 : List UInt8 := dkwX0_led_0 ++ dktX0_led_1
theorem dksX0_led_0 : cX0_led.data.toList.drop 0 = dktX0_led_0 := by decide +kernel
theorem dksX0_led_1 : cX0_led.data.toList.drop 23 = dktX0_led_1 := dk_seg dksX0_led_0 23 rfl rfl
theorem dX0_led_0 : decode cX0_led 0 = .ok (.aload_n 0, 1) := dk_42 (dk_at dksX0_led_0 0 rfl rfl)
theorem dX0_led_1 : decode cX0_led 1 = .ok (.getfield 79, 3) := dk_180 0 79 (dk_at dksX0_led_0 1 rfl rfl)
theorem dX0_led_4 : decode cX0_led 4 = .ok (.iconst (-1), 1) := dk_2 (dk_at dksX0_led_0 4 rfl rfl)
theorem dX0_led_5 : decode cX0_led 5 = .ok (.if_icmp .eq 17, 3) := dk_159 0 17 (dk_at dksX0_led_0 5 rfl rfl)
theorem dX0_led_8 : decode cX0_led 8 = .ok (.iload_n 1, 1) := dk_27 (dk_at dksX0_led_0 8 rfl rfl)
theorem dX0_led_9 : decode cX0_led 9 = .ok (.iconst (-1), 1) := dk_2 (dk_at dksX0_led_0 9 rfl rfl)
theorem dX0_led_10 : decode cX0_led 10 = .ok (.aload_n 0, 1) := dk_42 (dk_at dksX0_led_0 10 rfl rfl)
theorem dX0_led_11 : decode cX0_led 11 = .ok (.getfield 79, 3) := dk_180 0 79 (dk_at dksX0_led_0 11 rfl rfl)
theorem dX0_led_14 : decode cX0_led 14 = .ok (.iconst 1, 1) := dk_4 (dk_at dksX0_led_0 14 rfl rfl)
theorem dX0_led_15 : decode cX0_led 15 = .ok (.isub, 1) := dk_100 (dk_at dksX0_led_0 15 rfl rfl)
theorem dX0_led_16 : decode cX0_led 16 = .ok (.invokestatic 127, 3) := dk_184 0 127 (dk_at dksX0_led_0 16 rfl rfl)
theorem dX0_led_19 : decode cX0_led 19 = .ok (.ifCond .ne 7, 3) := dk_154 0 7 (dk_at dksX0_led_0 19 rfl rfl)
theorem dX0_led_22 : decode cX0_led 22 = .ok (.iconst (-1), 1) := dk_2 (dk_at dksX0_led_0 22 rfl rfl)
theorem dX0_led_23 : decode cX0_led 23 = .ok (.goto 21, 3) := dk_167 0 21 (dk_at dksX0_led_1 0 rfl rfl)
theorem dX0_led_26 : decode cX0_led 26 = .ok (.iload_n 1, 1) := dk_27 (dk_at dksX0_led_1 3 rfl rfl)
theorem dX0_led_27 : decode cX0_led 27 = .ok (.iconst (-1), 1) := dk_2 (dk_at dksX0_led_1 4 rfl rfl)
theorem dX0_led_28 : decode cX0_led 28 = .ok (.if_icmp .ne 10, 3) := dk_160 0 10 (dk_at dksX0_led_1 5 rfl rfl)
theorem dX0_led_31 : decode cX0_led 31 = .ok (.aload_n 0, 1) := dk_42 (dk_at dksX0_led_1 8 rfl rfl)
theorem dX0_led_32 : decode cX0_led 32 = .ok (.getfield 406, 3) := dk_180 1 150 (dk_at dksX0_led_1 9 rfl rfl)
theorem dX0_led_35 : decode cX0_led 35 = .ok (.goto 9, 3) := dk_167 0 9 (dk_at dksX0_led_1 12 rfl rfl)
theorem dX0_led_38 : decode cX0_led 38 = .ok (.aload_n 0, 1) := dk_42 (dk_at dksX0_led_1 15 rfl rfl)
theorem dX0_led_39 : decode cX0_led 39 = .ok (.getfield 76, 3) := dk_180 0 76 (dk_at dksX0_led_1 16 rfl rfl)
theorem dX0_led_42 : decode cX0_led 42 = .ok (.iload_n 1, 1) := dk_27 (dk_at dksX0_led_1 19 rfl rfl)
theorem dX0_led_43 : decode cX0_led 43 = .ok (.iaload, 1) := dk_46 (dk_at dksX0_led_1 20 rfl rfl)
theorem dX0_led_44 : decode cX0_led 44 = .ok (.ireturn, 1) := dk_172 (dk_at dksX0_led_1 21 rfl rfl)
def dkwX0_judge_1 : List UInt8 := [154, 0, 10, 42, 182, 1, 135, 154, 0, 5, 2, 172, 42, 28, 29, 182, 1, 139, 42, 27, 182, 1, 147, 172]
abbrev dktX0_judge_1 : List UInt8 := dkwX0_judge_1 ++ []
def dkwX0_judge_0 : List UInt8 := [28, 184, 0, 201, 153, 0, 30, 29, 184, 0, 201, 153, 0, 23, 27, 155, 0, 19, 27, 42, 180, 1, 123, 122]
abbrev dktX0_judge_0 : List UInt8 := dkwX0_judge_0 ++ dktX0_judge_1
theorem dksX0_judge_0 : cX0_judge.data.toList.drop 0 = dktX0_judge_0 := by decide +kernel
theorem dksX0_judge_1 : cX0_judge.data.toList.drop 24 = dktX0_judge_1 := dk_seg dksX0_judge_0 24 rfl rfl
theorem dX0_judge_0 : decode cX0_judge 0 = .ok (.iload_n 2, 1) := dk_28 (dk_at dksX0_judge_0 0 rfl rfl)
theorem dX0_judge_1 : decode cX0_judge 1 = .ok (.invokestatic 201, 3) := dk_184 0 201 (dk_at dksX0_judge_0 1 rfl rfl)
theorem dX0_judge_4 : decode cX0_judge 4 = .ok (.ifCond .eq 30, 3) := dk_153 0 30 (dk_at dksX0_judge_0 4 rfl rfl)
theorem dX0_judge_7 : decode cX0_judge 7 = .ok (.iload_n 3, 1) := dk_29 (dk_at dksX0_judge_0 7 rfl rfl)
theorem dX0_judge_8 : decode cX0_judge 8 = .ok (.invokestatic 201, 3) := dk_184 0 201 (dk_at dksX0_judge_0 8 rfl rfl)
theorem dX0_judge_11 : decode cX0_judge 11 = .ok (.ifCond .eq 23, 3) := dk_153 0 23 (dk_at dksX0_judge_0 11 rfl rfl)
theorem dX0_judge_14 : decode cX0_judge 14 = .ok (.iload_n 1, 1) := dk_27 (dk_at dksX0_judge_0 14 rfl rfl)
theorem dX0_judge_15 : decode cX0_judge 15 = .ok (.ifCond .lt 19, 3) := dk_155 0 19 (dk_at dksX0_judge_0 15 rfl rfl)
theorem dX0_judge_18 : decode cX0_judge 18 = .ok (.iload_n 1, 1) := dk_27 (dk_at dksX0_judge_0 18 rfl rfl)
theorem dX0_judge_19 : decode cX0_judge 19 = .ok (.aload_n 0, 1) := dk_42 (dk_at dksX0_judge_0 19 rfl rfl)
theorem dX0_judge_20 : decode cX0_judge 20 = .ok (.getfield 379, 3) := dk_180 1 123 (dk_at dksX0_judge_0 20 rfl rfl)
theorem dX0_judge_23 : decode cX0_judge 23 = .ok (.ishr, 1) := dk_122 (dk_at dksX0_judge_0 23 rfl rfl)
theorem dX0_judge_24 : decode cX0_judge 24 = .ok (.ifCond .ne 10, 3) := dk_154 0 10 (dk_at dksX0_judge_1 0 rfl rfl)
theorem dX0_judge_27 : decode cX0_judge 27 = .ok (.aload_n 0, 1) := dk_42 (dk_at dksX0_judge_1 3 rfl rfl)
theorem dX0_judge_28 : decode cX0_judge 28 = .ok (.invokevirtual 391, 3) := dk_182 1 135 (dk_at dksX0_judge_1 4 rfl rfl)
theorem dX0_judge_31 : decode cX0_judge 31 = .ok (.ifCond .ne 5, 3) := dk_154 0 5 (dk_at dksX0_judge_1 7 rfl rfl)
theorem dX0_judge_34 : decode cX0_judge 34 = .ok (.iconst (-1), 1) := dk_2 (dk_at dksX0_judge_1 10 rfl rfl)
theorem dX0_judge_35 : decode cX0_judge 35 = .ok (.ireturn, 1) := dk_172 (dk_at dksX0_judge_1 11 rfl rfl)
theorem dX0_judge_36 : decode cX0_judge 36 = .ok (.aload_n 0, 1) := dk_42 (dk_at dksX0_judge_1 12 rfl rfl)
theorem dX0_judge_37 : decode cX0_judge 37 = .ok (.iload_n 2, 1) := dk_28 (dk_at dksX0_judge_1 13 rfl rfl)
theorem dX0_judge_38 : decode cX0_judge 38 = .ok (.iload_n 3, 1) := dk_29 (dk_at dksX0_judge_1 14 rfl rfl)
theorem dX0_judge_39 : decode cX0_judge 39 = .ok (.invokevirtual 395, 3) := dk_182 1 139 (dk_at dksX0_judge_1 15 rfl rfl)
theorem dX0_judge_42 : decode cX0_judge 42 = .ok (.aload_n 0, 1) := dk_42 (dk_at dksX0_judge_1 18 rfl rfl)
theorem dX0_judge_43 : decode cX0_judge 43 = .ok (.iload_n 1, 1) := dk_27 (dk_at dksX0_judge_1 19 rfl rfl)
theorem dX0_judge_44 : decode cX0_judge 44 = .ok (.invokevirtual 403, 3) := dk_182 1 147 (dk_at dksX0_judge_1 20 rfl rfl)
theorem dX0_judge_47 : decode cX0_judge 47 = .ok (.ireturn, 1) := dk_172 (dk_at dksX0_judge_1 23 rfl rfl)
def dkwX0_booth_3 : List UInt8 := [180, 0, 154, 4, 96, 181, 0, 154, 42, 42, 180, 0, 10, 180, 0, 154, 4, 100, 182, 0, 138, 172]
abbrev dktX0_booth_3 : List UInt8 := dkwX0_booth_3 ++ []
def dkwX0_booth_2 : List UInt8 := [27, 79, 42, 180, 0, 10, 180, 1, 156, 42, 180, 0, 10, 180, 0, 154, 2, 79, 42, 180, 0, 10, 89]
abbrev dktX0_booth_2 : List UInt8 := dkwX0_booth_2 ++ dktX0_booth_3
def dkwX0_booth_1 : List UInt8 := [160, 0, 10, 42, 16, 251, 182, 0, 131, 172, 42, 180, 0, 10, 180, 1, 153, 42, 180, 0, 10, 180, 0, 154]
abbrev dktX0_booth_1 : List UInt8 := dkwX0_booth_1 ++ dktX0_booth_2
def dkwX0_booth_0 : List UInt8 := [42, 27, 182, 0, 204, 154, 0, 10, 42, 16, 254, 182, 0, 131, 172, 42, 180, 0, 10, 180, 0, 154, 16, 20]
abbrev dktX0_booth_0 : List UInt8 := dkwX0_booth_0 ++ dktX0_booth_1
theorem dksX0_booth_0 : cX0_booth.data.toList.drop 0 = dktX0_booth_0 := by decide +kernel
theorem dksX0_booth_1 : cX0_booth.data.toList.drop 24 = dktX0_booth_1 := dk_seg dksX0_booth_0 24 rfl rfl
theorem dksX0_booth_2 : cX0_booth.data.toList.drop 48 = dktX0_booth_2 := dk_seg dksX0_booth_1 24 rfl rfl
theorem dksX0_booth_3 : cX0_booth.data.toList.drop 71 = dktX0_booth_3 := dk_seg dksX0_booth_2 23 rfl rfl
theorem dX0_booth_0 : decode cX0_booth 0 = .ok (.aload_n 0, 1) := dk_42 (dk_at dksX0_booth_0 0 rfl rfl)
theorem dX0_booth_1 : decode cX0_booth 1 = .ok (.iload_n 1, 1) := dk_27 (dk_at dksX0_booth_0 1 rfl rfl)
theorem dX0_booth_2 : decode cX0_booth 2 = .ok (.invokevirtual 204, 3) := dk_182 0 204 (dk_at dksX0_booth_0 2 rfl rfl)
theorem dX0_booth_5 : decode cX0_booth 5 = .ok (.ifCond .ne 10, 3) := dk_154 0 10 (dk_at dksX0_booth_0 5 rfl rfl)
theorem dX0_booth_8 : decode cX0_booth 8 = .ok (.aload_n 0, 1) := dk_42 (dk_at dksX0_booth_0 8 rfl rfl)
theorem dX0_booth_9 : decode cX0_booth 9 = .ok (.bipush (-2), 2) := dk_16 254 (dk_at dksX0_booth_0 9 rfl rfl)
theorem dX0_booth_11 : decode cX0_booth 11 = .ok (.invokevirtual 131, 3) := dk_182 0 131 (dk_at dksX0_booth_0 11 rfl rfl)
theorem dX0_booth_14 : decode cX0_booth 14 = .ok (.ireturn, 1) := dk_172 (dk_at dksX0_booth_0 14 rfl rfl)
theorem dX0_booth_15 : decode cX0_booth 15 = .ok (.aload_n 0, 1) := dk_42 (dk_at dksX0_booth_0 15 rfl rfl)
theorem dX0_booth_16 : decode cX0_booth 16 = .ok (.getfield 10, 3) := dk_180 0 10 (dk_at dksX0_booth_0 16 rfl rfl)
theorem dX0_booth_19 : decode cX0_booth 19 = .ok (.getfield 154, 3) := dk_180 0 154 (dk_at dksX0_booth_0 19 rfl rfl)
theorem dX0_booth_22 : decode cX0_booth 22 = .ok (.bipush 20, 2) := dk_16 20 (dk_at dksX0_booth_0 22 rfl rfl)
theorem dX0_booth_24 : decode cX0_booth 24 = .ok (.if_icmp .ne 10, 3) := dk_160 0 10 (dk_at dksX0_booth_1 0 rfl rfl)
theorem dX0_booth_27 : decode cX0_booth 27 = .ok (.aload_n 0, 1) := dk_42 (dk_at dksX0_booth_1 3 rfl rfl)
theorem dX0_booth_28 : decode cX0_booth 28 = .ok (.bipush (-5), 2) := dk_16 251 (dk_at dksX0_booth_1 4 rfl rfl)
theorem dX0_booth_30 : decode cX0_booth 30 = .ok (.invokevirtual 131, 3) := dk_182 0 131 (dk_at dksX0_booth_1 6 rfl rfl)
theorem dX0_booth_33 : decode cX0_booth 33 = .ok (.ireturn, 1) := dk_172 (dk_at dksX0_booth_1 9 rfl rfl)
theorem dX0_booth_34 : decode cX0_booth 34 = .ok (.aload_n 0, 1) := dk_42 (dk_at dksX0_booth_1 10 rfl rfl)
theorem dX0_booth_35 : decode cX0_booth 35 = .ok (.getfield 10, 3) := dk_180 0 10 (dk_at dksX0_booth_1 11 rfl rfl)
theorem dX0_booth_38 : decode cX0_booth 38 = .ok (.getfield 409, 3) := dk_180 1 153 (dk_at dksX0_booth_1 14 rfl rfl)
theorem dX0_booth_41 : decode cX0_booth 41 = .ok (.aload_n 0, 1) := dk_42 (dk_at dksX0_booth_1 17 rfl rfl)
theorem dX0_booth_42 : decode cX0_booth 42 = .ok (.getfield 10, 3) := dk_180 0 10 (dk_at dksX0_booth_1 18 rfl rfl)
theorem dX0_booth_45 : decode cX0_booth 45 = .ok (.getfield 154, 3) := dk_180 0 154 (dk_at dksX0_booth_1 21 rfl rfl)
theorem dX0_booth_48 : decode cX0_booth 48 = .ok (.iload_n 1, 1) := dk_27 (dk_at dksX0_booth_2 0 rfl rfl)
theorem dX0_booth_49 : decode cX0_booth 49 = .ok (.iastore, 1) := dk_79 (dk_at dksX0_booth_2 1 rfl rfl)
theorem dX0_booth_50 : decode cX0_booth 50 = .ok (.aload_n 0, 1) := dk_42 (dk_at dksX0_booth_2 2 rfl rfl)
theorem dX0_booth_51 : decode cX0_booth 51 = .ok (.getfield 10, 3) := dk_180 0 10 (dk_at dksX0_booth_2 3 rfl rfl)
theorem dX0_booth_54 : decode cX0_booth 54 = .ok (.getfield 412, 3) := dk_180 1 156 (dk_at dksX0_booth_2 6 rfl rfl)
theorem dX0_booth_57 : decode cX0_booth 57 = .ok (.aload_n 0, 1) := dk_42 (dk_at dksX0_booth_2 9 rfl rfl)
theorem dX0_booth_58 : decode cX0_booth 58 = .ok (.getfield 10, 3) := dk_180 0 10 (dk_at dksX0_booth_2 10 rfl rfl)
theorem dX0_booth_61 : decode cX0_booth 61 = .ok (.getfield 154, 3) := dk_180 0 154 (dk_at dksX0_booth_2 13 rfl rfl)
theorem dX0_booth_64 : decode cX0_booth 64 = .ok (.iconst (-1), 1) := dk_2 (dk_at dksX0_booth_2 16 rfl rfl)
theorem dX0_booth_65 : decode cX0_booth 65 = .ok (.iastore, 1) := dk_79 (dk_at dksX0_booth_2 17 rfl rfl)
theorem dX0_booth_66 : decode cX0_booth 66 = .ok (.aload_n 0, 1) := dk_42 (dk_at dksX0_booth_2 18 rfl rfl)
theorem dX0_booth_67 : decode cX0_booth 67 = .ok (.getfield 10, 3) := dk_180 0 10 (dk_at dksX0_booth_2 19 rfl rfl)
theorem dX0_booth_70 : decode cX0_booth 70 = .ok (.dup, 1) := dk_89 (dk_at dksX0_booth_2 22 rfl rfl)
theorem dX0_booth_71 : decode cX0_booth 71 = .ok (.getfield 154, 3) := dk_180 0 154 (dk_at dksX0_booth_3 0 rfl rfl)
theorem dX0_booth_74 : decode cX0_booth 74 = .ok (.iconst 1, 1) := dk_4 (dk_at dksX0_booth_3 3 rfl rfl)
theorem dX0_booth_75 : decode cX0_booth 75 = .ok (.iadd, 1) := dk_96 (dk_at dksX0_booth_3 4 rfl rfl)
theorem dX0_booth_76 : decode cX0_booth 76 = .ok (.putfield 154, 3) := dk_181 0 154 (dk_at dksX0_booth_3 5 rfl rfl)
theorem dX0_booth_79 : decode cX0_booth 79 = .ok (.aload_n 0, 1) := dk_42 (dk_at dksX0_booth_3 8 rfl rfl)
theorem dX0_booth_80 : decode cX0_booth 80 = .ok (.aload_n 0, 1) := dk_42 (dk_at dksX0_booth_3 9 rfl rfl)
theorem dX0_booth_81 : decode cX0_booth 81 = .ok (.getfield 10, 3) := dk_180 0 10 (dk_at dksX0_booth_3 10 rfl rfl)
theorem dX0_booth_84 : decode cX0_booth 84 = .ok (.getfield 154, 3) := dk_180 0 154 (dk_at dksX0_booth_3 13 rfl rfl)
theorem dX0_booth_87 : decode cX0_booth 87 = .ok (.iconst 1, 1) := dk_4 (dk_at dksX0_booth_3 16 rfl rfl)
theorem dX0_booth_88 : decode cX0_booth 88 = .ok (.isub, 1) := dk_100 (dk_at dksX0_booth_3 17 rfl rfl)
theorem dX0_booth_89 : decode cX0_booth 89 = .ok (.invokevirtual 138, 3) := dk_182 0 138 (dk_at dksX0_booth_3 18 rfl rfl)
theorem dX0_booth_92 : decode cX0_booth 92 = .ok (.ireturn, 1) := dk_172 (dk_at dksX0_booth_3 21 rfl rfl)
def dkwX0_box_4 : List UInt8 := [96, 181, 0, 157, 42, 42, 180, 0, 10, 180, 0, 157, 4, 100, 182, 0, 138, 172]
abbrev dktX0_box_4 : List UInt8 := dkwX0_box_4 ++ []
def dkwX0_box_3 : List UInt8 := [180, 0, 10, 180, 1, 166, 42, 180, 0, 10, 180, 0, 157, 28, 79, 42, 180, 0, 10, 89, 180, 0, 157, 4]
abbrev dktX0_box_3 : List UInt8 := dkwX0_box_3 ++ dktX0_box_4
def dkwX0_box_2 : List UInt8 := [16, 251, 182, 0, 131, 172, 42, 180, 0, 10, 180, 1, 163, 42, 180, 0, 10, 180, 0, 157, 27, 79, 42]
abbrev dktX0_box_2 : List UInt8 := dkwX0_box_2 ++ dktX0_box_3
def dkwX0_box_1 : List UInt8 := [154, 0, 10, 42, 16, 254, 182, 0, 131, 172, 42, 180, 0, 10, 180, 0, 157, 16, 40, 160, 0, 10, 42]
abbrev dktX0_box_1 : List UInt8 := dkwX0_box_1 ++ dktX0_box_2
