set_option maxRecDepth 100000
def dkwX7_init_12 : List UInt8 := [177]
abbrev dktX7_init_12 : List UInt8 := dkwX7_init_12 ++ []
def dkwX7_init_11 : List UInt8 := [16, 7, 188, 10, 181, 0, 107, 42, 16, 7, 188, 10, 181, 0, 110, 42, 180, 0, 7, 16, 9, 16, 20, 79]
abbrev dktX7_init_11 : List UInt8 := dkwX7_init_11 ++ dktX7_init_12
def dkwX7_init_10 : List UInt8 := [16, 20, 188, 10, 181, 0, 98, 42, 16, 7, 188, 10, 181, 0, 101, 42, 16, 7, 188, 10, 181, 0, 104, 42]
abbrev dktX7_init_10 : List UInt8 := dkwX7_init_10 ++ dktX7_init_11
def dkwX7_init_9 : List UInt8 := [16, 10, 188, 4, 181, 0, 89, 42, 16, 8, 188, 10, 181, 0, 92, 42, 16, 8, 188, 10, 181, 0, 95, 42]
abbrev dktX7_init_9 : List UInt8 := dkwX7_init_9 ++ dktX7_init_10
def dkwX7_init_8 : List UInt8 := [16, 7, 188, 10, 181, 0, 80, 42, 16, 7, 188, 10, 181, 0, 83, 42, 16, 7, 188, 10, 181, 0, 86, 42]
abbrev dktX7_init_8 : List UInt8 := dkwX7_init_8 ++ dktX7_init_9
def dkwX7_init_7 : List UInt8 := [16, 7, 188, 10, 181, 0, 71, 42, 16, 7, 188, 10, 181, 0, 74, 42, 16, 7, 188, 10, 181, 0, 77, 42]
abbrev dktX7_init_7 : List UInt8 := dkwX7_init_7 ++ dktX7_init_8
def dkwX7_init_6 : List UInt8 := [16, 7, 188, 10, 181, 0, 62, 42, 16, 7, 188, 10, 181, 0, 65, 42, 16, 7, 188, 10, 181, 0, 68, 42]
abbrev dktX7_init_6 : List UInt8 := dkwX7_init_6 ++ dktX7_init_7
def dkwX7_init_5 : List UInt8 := [188, 4, 181, 0, 52, 42, 16, 17, 188, 11, 181, 0, 55, 42, 17, 1, 144, 188, 11, 181, 0, 59, 42]
abbrev dktX7_init_5 : List UInt8 := dkwX7_init_5 ++ dktX7_init_6
def dkwX7_init_4 : List UInt8 := [181, 0, 43, 42, 17, 1, 144, 188, 10, 181, 0, 46, 42, 16, 20, 188, 4, 181, 0, 49, 42, 17, 0, 240]
abbrev dktX7_init_4 : List UInt8 := dkwX7_init_4 ++ dktX7_init_5
def dkwX7_init_3 : List UInt8 := [17, 1, 144, 188, 10, 181, 0, 37, 42, 17, 1, 144, 188, 10, 181, 0, 40, 42, 17, 1, 144, 188, 10]
abbrev dktX7_init_3 : List UInt8 := dkwX7_init_3 ++ dktX7_init_4
def dkwX7_init_2 : List UInt8 := [17, 1, 144, 188, 10, 181, 0, 27, 42, 2, 181, 0, 30, 42, 16, 96, 188, 10, 181, 0, 34, 42]
abbrev dktX7_init_2 : List UInt8 := dkwX7_init_2 ++ dktX7_init_3
def dkwX7_init_1 : List UInt8 := [188, 4, 181, 0, 17, 42, 17, 0, 200, 188, 4, 181, 0, 21, 42, 16, 16, 188, 10, 181, 0, 24, 42]
abbrev dktX7_init_1 : List UInt8 := dkwX7_init_1 ++ dktX7_init_2
def dkwX7_init_0 : List UInt8 := [42, 183, 0, 1, 42, 17, 89, 232, 188, 10, 181, 0, 7, 42, 18, 13, 188, 10, 181, 0, 14, 42, 5]
abbrev dktX7_init_0 : List UInt8 := dkwX7_init_0 ++ dktX7_init_1
theorem dksX7_init_0 : cX7_init.data.toList.drop 0 = dktX7_init_0 := by decide +kernel
theorem dksX7_init_1 : cX7_init.data.toList.drop 23 = dktX7_init_1 := dk_seg dksX7_init_0 23 rfl rfl
theorem dksX7_init_2 : cX7_init.data.toList.drop 46 = dktX7_init_2 := dk_seg dksX7_init_1 23 rfl rfl
theorem dksX7_init_3 : cX7_init.data.toList.drop 68 = dktX7_init_3 := dk_seg dksX7_init_2 22 rfl rfl
theorem dksX7_init_4 : cX7_init.data.toList.drop 91 = dktX7_init_4 := dk_seg dksX7_init_3 23 rfl rfl
theorem dksX7_init_5 : cX7_init.data.toList.drop 115 = dktX7_init_5 := dk_seg dksX7_init_4 24 rfl rfl
theorem dksX7_init_6 : cX7_init.data.toList.drop 138 = dktX7_init_6 := dk_seg dksX7_init_5 23 rfl rfl
theorem dksX7_init_7 : cX7_init.data.toList.drop 162 = dktX7_init_7 := dk_seg dksX7_init_6 24 rfl rfl
theorem dksX7_init_8 : cX7_init.data.toList.drop 186 = dktX7_init_8 := dk_seg dksX7_init_7 24 rfl rfl
theorem dksX7_init_9 : cX7_init.data.toList.drop 210 = dktX7_init_9 := dk_seg dksX7_init_8 24 rfl rfl
theorem dksX7_init_10 : cX7_init.data.toList.drop 234 = dktX7_init_10 := dk_seg dksX7_init_9 24 rfl rfl
theorem dksX7_init_11 : cX7_init.data.toList.drop 258 = dktX7_init_11 := dk_seg dksX7_init_10 24 rfl rfl
theorem dksX7_init_12 : cX7_init.data.toList.drop 282 = dktX7_init_12 := dk_seg dksX7_init_11 24 rfl rfl
theorem dX7_init_0 : decode cX7_init 0 = .ok (.aload_n 0, 1) := dk_42 (dk_at dksX7_init_0 0 rfl rfl)
theorem dX7_init_1 : decode cX7_init 1 = .ok (.invokespecial 1, 3) := dk_183 0 1 (dk_at dksX7_init_0 1 rfl rfl)
theorem dX7_init_4 : decode cX7_init 4 = .ok (.aload_n 0, 1) := dk_42 (dk_at dksX7_init_0 4 rfl rfl)
theorem dX7_init_5 : decode cX7_init 5 = .ok (.sipush 23016, 3) := dk_17 89 232 (dk_at dksX7_init_0 5 rfl rfl)
theorem dX7_init_8 : decode cX7_init 8 = .ok (.newarray .int, 2) := dk_188_10 (dk_at dksX7_init_0 8 rfl rfl)
theorem dX7_init_10 : decode cX7_init 10 = .ok (.putfield 7, 3) := dk_181 0 7 (dk_at dksX7_init_0 10 rfl rfl)
theorem dX7_init_13 : decode cX7_init 13 = .ok (.aload_n 0, 1) := dk_42 (dk_at dksX7_init_0 13 rfl rfl)
theorem dX7_init_14 : decode cX7_init 14 = .ok (.ldc 13, 2) := dk_18 13 (dk_at dksX7_init_0 14 rfl rfl)
theorem dX7_init_16 : decode cX7_init 16 = .ok (.newarray .int, 2) := dk_188_10 (dk_at dksX7_init_0 16 rfl rfl)
theorem dX7_init_18 : decode cX7_init 18 = .ok (.putfield 14, 3) := dk_181 0 14 (dk_at dksX7_init_0 18 rfl rfl)
theorem dX7_init_21 : decode cX7_init 21 = .ok (.aload_n 0, 1) := dk_42 (dk_at dksX7_init_0 21 rfl rfl)
theorem dX7_init_22 : decode cX7_init 22 = .ok (.iconst 2, 1) := dk_5 (dk_at dksX7_init_0 22 rfl rfl)
theorem dX7_init_23 : decode cX7_init 23 = .ok (.newarray .boolean, 2) := dk_188_4 (dk_at dksX7_init_1 0 rfl rfl)
theorem dX7_init_25 : decode cX7_init 25 = .ok (.putfield 17, 3) := dk_181 0 17 (dk_at dksX7_init_1 2 rfl rfl)
theorem dX7_init_28 : decode cX7_init 28 = .ok (.aload_n 0, 1) := dk_42 (dk_at dksX7_init_1 5 rfl rfl)
theorem dX7_init_29 : decode cX7_init 29 = .ok (.sipush 200, 3) := dk_17 0 200 (dk_at dksX7_init_1 6 rfl rfl)
theorem dX7_init_32 : decode cX7_init 32 = .ok (.newarray .boolean, 2) := dk_188_4 (dk_at dksX7_init_1 9 rfl rfl)
theorem dX7_init_34 : decode cX7_init 34 = .ok (.putfield 21, 3) := dk_181 0 21 (dk_at dksX7_init_1 11 rfl rfl)
theorem dX7_init_37 : decode cX7_init 37 = .ok (.aload_n 0, 1) := dk_42 (dk_at dksX7_init_1 14 rfl rfl)
theorem dX7_init_38 : decode cX7_init 38 = .ok (.bipush 16, 2) := dk_16 16 (dk_at dksX7_init_1 15 rfl rfl)
theorem dX7_init_40 : decode cX7_init 40 = .ok (.newarray .int, 2) := dk_188_10 (dk_at dksX7_init_1 17 rfl rfl)
theorem dX7_init_42 : decode cX7_init 42 = .ok (.putfield 24, 3) := dk_181 0 24 (dk_at dksX7_init_1 19 rfl rfl)
theorem dX7_init_45 : decode cX7_init 45 = .ok (.aload_n 0, 1) := dk_42 (dk_at dksX7_init_1 22 rfl rfl)
theorem dX7_init_46 : decode cX7_init 46 = .ok (.sipush 400, 3) := dk_17 1 144 (dk_at dksX7_init_2 0 rfl rfl)
theorem dX7_init_49 : decode cX7_init 49 = .ok (.newarray .int, 2) := dk_188_10 (dk_at dksX7_init_2 3 rfl rfl)
theorem dX7_init_51 : decode cX7_init 51 = .ok (.putfield 27, 3) := dk_181 0 27 (dk_at dksX7_init_2 5 rfl rfl)
theorem dX7_init_54 : decode cX7_init 54 = .ok (.aload_n 0, 1) := dk_42 (dk_at dksX7_init_2 8 rfl rfl)
theorem dX7_init_55 : decode cX7_init 55 = .ok (.iconst (-1), 1) := dk_2 (dk_at dksX7_init_2 9 rfl rfl)
theorem dX7_init_56 : decode cX7_init 56 = .ok (.putfield 30, 3) := dk_181 0 30 (dk_at dksX7_init_2 10 rfl rfl)
theorem dX7_init_59 : decode cX7_init 59 = .ok (.aload_n 0, 1) := dk_42 (dk_at dksX7_init_2 13 rfl rfl)
theorem dX7_init_60 : decode cX7_init 60 = .ok (.bipush 96, 2) := dk_16 96 (dk_at dksX7_init_2 14 rfl rfl)
theorem dX7_init_62 : decode cX7_init 62 = .ok (.newarray .int, 2) := dk_188_10 (dk_at dksX7_init_2 16 rfl rfl)
theorem dX7_init_64 : decode cX7_init 64 = .ok (.putfield 34, 3) := dk_181 0 34 (dk_at dksX7_init_2 18 rfl rfl)
theorem dX7_init_67 : decode cX7_init 67 = .ok (.aload_n 0, 1) := dk_42 (dk_at dksX7_init_2 21 rfl rfl)
theorem dX7_init_68 : decode cX7_init 68 = .ok (.sipush 400, 3) := dk_17 1 144 (dk_at dksX7_init_3 0 rfl rfl)
theorem dX7_init_71 : decode cX7_init 71 = .ok (.newarray .int, 2) := dk_188_10 (dk_at dksX7_init_3 3 rfl rfl)
theorem dX7_init_73 : decode cX7_init 73 = .ok (.putfield 37, 3) := dk_181 0 37 (dk_at dksX7_init_3 5 rfl rfl)
theorem dX7_init_76 : decode cX7_init 76 = .ok (.aload_n 0, 1) := dk_42 (dk_at dksX7_init_3 8 rfl rfl)
theorem dX7_init_77 : decode cX7_init 77 = .ok (.sipush 400, 3) := dk_17 1 144 (dk_at dksX7_init_3 9 rfl rfl)
theorem dX7_init_80 : decode cX7_init 80 = .ok (.newarray .int, 2) := dk_188_10 (dk_at dksX7_init_3 12 rfl rfl)
theorem dX7_init_82 : decode cX7_init 82 = .ok (.putfield 40, 3) := dk_181 0 40 (dk_at dksX7_init_3 14 rfl rfl)
theorem dX7_init_85 : decode cX7_init 85 = .ok (.aload_n 0, 1) := dk_42 (dk_at dksX7_init_3 17 rfl rfl)
theorem dX7_init_86 : decode cX7_init 86 = .ok (.sipush 400, 3) := dk_17 1 144 (dk_at dksX7_init_3 18 rfl rfl)
theorem dX7_init_89 : decode cX7_init 89 = .ok (.newarray .int, 2) := dk_188_10 (dk_at dksX7_init_3 21 rfl rfl)
theorem dX7_init_91 : decode cX7_init 91 = .ok (.putfield 43, 3) := dk_181 0 43 (dk_at dksX7_init_4 0 rfl rfl)
theorem dX7_init_94 : decode cX7_init 94 = .ok (.aload_n 0, 1) := dk_42 (dk_at dksX7_init_4 3 rfl rfl)
theorem dX7_init_95 : decode cX7_init 95 = .ok (.sipush 400, 3) := dk_17 1 144 (dk_at dksX7_init_4 4 rfl rfl)
theorem dX7_init_98 : decode cX7_init 98 = .ok (.newarray .int, 2) := dk_188_10 (dk_at dksX7_init_4 7 rfl rfl)
theorem dX7_init_100 : decode cX7_init 100 = .ok (.putfield 46, 3) := dk_181 0 46 (dk_at dksX7_init_4 9 rfl rfl)
theorem dX7_init_103 : decode cX7_init 103 = .ok (.aload_n 0, 1) := dk_42 (dk_at dksX7_init_4 12 rfl rfl)
theorem dX7_init_104 : decode cX7_init 104 = .ok (.bipush 20, 2) := dk_16 20 (dk_at dksX7_init_4 13 rfl rfl)
theorem dX7_init_106 : decode cX7_init 106 = .ok (.newarray .boolean, 2) := dk_188_4 (dk_at dksX7_init_4 15 rfl rfl)
theorem dX7_init_108 : decode cX7_init 108 = .ok (.putfield 49, 3) := dk_181 0 49 (dk_at dksX7_init_4 17 rfl rfl)
theorem dX7_init_111 : decode cX7_init 111 = .ok (.aload_n 0, 1) := dk_42 (dk_at dksX7_init_4 20 rfl rfl)
theorem dX7_init_112 : decode cX7_init 112 = .ok (.sipush 240, 3) := dk_17 0 240 (dk_at dksX7_init_4 21 rfl rfl)
theorem dX7_init_115 : decode cX7_init 115 = .ok (.newarray .boolean, 2) := dk_188_4 (dk_at dksX7_init_5 0 rfl rfl)
theorem dX7_init_117 : decode cX7_init 117 = .ok (.putfield 52, 3) := dk_181 0 52 (dk_at dksX7_init_5 2 rfl rfl)
theorem dX7_init_120 : decode cX7_init 120 = .ok (.aload_n 0, 1) := dk_42 (dk_at dksX7_init_5 5 rfl rfl)
theorem dX7_init_121 : decode cX7_init 121 = .ok (.bipush 17, 2) := dk_16 17 (dk_at dksX7_init_5 6 rfl rfl)
theorem dX7_init_123 : decode cX7_init 123 = .ok (.newarray .long, 2) := dk_188_11 (dk_at dksX7_init_5 8 rfl rfl)
theorem dX7_init_125 : decode cX7_init 125 = .ok (.putfield 55, 3) := dk_181 0 55 (dk_at dksX7_init_5 10 rfl rfl)
theorem dX7_init_128 : decode cX7_init 128 = .ok (.aload_n 0, 1) := dk_42 (dk_at dksX7_init_5 13 rfl rfl)
theorem dX7_init_129 : decode cX7_init 129 = .ok (.sipush 400, 3) := dk_17 1 144 (dk_at dksX7_init_5 14 rfl rfl)
theorem dX7_init_132 : decode cX7_init 132 = .ok (.newarray .long, 2) := dk_188_11 (dk_at dksX7_init_5 17 rfl rfl)
theorem dX7_init_134 : decode cX7_init 134 = .ok (.putfield 59, 3) := dk_181 0 59 (dk_at dksX7_init_5 19 rfl rfl)
theorem dX7_init_137 : decode cX7_init 137 = .ok (.aload_n 0, 1) := dk_42 (dk_at dksX7_init_5 22 rfl rfl)
theorem dX7_init_138 : decode cX7_init 138 = .ok (.bipush 7, 2) := dk_16 7 (dk_at dksX7_init_6 0 rfl rfl)
theorem dX7_init_140 : decode cX7_init 140 = .ok (.newarray .int, 2) := dk_188_10 (dk_at dksX7_init_6 2 rfl rfl)
theorem dX7_init_142 : decode cX7_init 142 = .ok (.putfield 62, 3) := dk_181 0 62 (dk_at dksX7_init_6 4 rfl rfl)
theorem dX7_init_145 : decode cX7_init 145 = .ok (.aload_n 0, 1) := dk_42 (dk_at dksX7_init_6 7 rfl rfl)
theorem dX7_init_146 : decode cX7_init 146 = .ok (.bipush 7, 2) := dk_16 7 (dk_at dksX7_init_6 8 rfl rfl)
theorem dX7_init_148 : decode cX7_init 148 = .ok (.newarray .int, 2) := dk_188_10 (dk_at dksX7_init_6 10 rfl rfl)
theorem dX7_init_150 : decode cX7_init 150 = .ok (.putfield 65, 3) := dk_181 0 65 (dk_at dksX7_init_6 12 rfl rfl)
theorem dX7_init_153 : decode cX7_init 153 = .ok (.aload_n 0, 1) := dk_42 (dk_at dksX7_init_6 15 rfl rfl)
theorem dX7_init_154 : decode cX7_init 154 = .ok (.bipush 7, 2) := dk_16 7 (dk_at dksX7_init_6 16 rfl rfl)
theorem dX7_init_156 : decode cX7_init 156 = .ok (.newarray .int, 2) := dk_188_10 (dk_at dksX7_init_6 18 rfl rfl)
theorem dX7_init_158 : decode cX7_init 158 = .ok (.putfield 68, 3) := dk_181 0 68 (dk_at dksX7_init_6 20 rfl rfl)
theorem dX7_init_161 : decode cX7_init 161 = .ok (.aload_n 0, 1) := dk_42 (dk_at dksX7_init_6 23 rfl rfl)
theorem dX7_init_162 : decode cX7_init 162 = .ok (.bipush 7, 2) := dk_16 7 (dk_at dksX7_init_7 0 rfl rfl)
theorem dX7_init_164 : decode cX7_init 164 = .ok (.newarray .int, 2) := dk_188_10 (dk_at dksX7_init_7 2 rfl rfl)
theorem dX7_init_166 : decode cX7_init 166 = .ok (.putfield 71, 3) := dk_181 0 71 (dk_at dksX7_init_7 4 rfl rfl)
theorem dX7_init_169 : decode cX7_init 169 = .ok (.aload_n 0, 1) := dk_42 (dk_at dksX7_init_7 7 rfl rfl)
theorem dX7_init_170 : decode cX7_init 170 = .ok (.bipush 7, 2) := dk_16 7 (dk_at dksX7_init_7 8 rfl rfl)
theorem dX7_init_172 : decode cX7_init 172 = .ok (.newarray .int, 2) := dk_188_10 (dk_at dksX7_init_7 10 rfl rfl)
theorem dX7_init_174 : decode cX7_init 174 = .ok (.putfield 74, 3) := dk_181 0 74 (dk_at dksX7_init_7 12 rfl rfl)
theorem dX7_init_177 : decode cX7_init 177 = .ok (.aload_n 0, 1) := dk_42 (dk_at dksX7_init_7 15 rfl rfl)
theorem dX7_init_178 : decode cX7_init 178 = .ok (.bipush 7, 2) := dk_16 7 (dk_at dksX7_init_7 16 rfl rfl)
theorem dX7_init_180 : decode cX7_init 180 = .ok (.newarray .int, 2) := dk_188_10 (dk_at dksX7_init_7 18 rfl rfl)
theorem dX7_init_182 : decode cX7_init 182 = .ok (.putfield 77, 3) := dk_181 0 77 (dk_at dksX7_init_7 20 rfl rfl)
theorem dX7_init_185 : decode cX7_init 185 = .ok (.aload_n 0, 1) := dk_42 (dk_at dksX7_init_7 23 rfl rfl)
theorem dX7_init_186 : decode cX7_init 186 = .ok (.bipush 7, 2) := dk_16 7 (dk_at dksX7_init_8 0 rfl rfl)
theorem dX7_init_188 : decode cX7_init 188 = .ok (.newarray .int, 2) := dk_188_10 (dk_at dksX7_init_8 2 rfl rfl)
theorem dX7_init_190 : decode cX7_init 190 = .ok (.putfield 80, 3) := dk_181 0 80 (dk_at dksX7_init_8 4 rfl rfl)
theorem dX7_init_193 : decode cX7_init 193 = .ok (.aload_n 0, 1) := dk_42 (dk_at dksX7_init_8 7 rfl rfl)
theorem dX7_init_194 : decode cX7_init 194 = .ok (.bipush 7, 2) := dk_16 7 (dk_at dksX7_init_8 8 rfl rfl)
theorem dX7_init_196 : decode cX7_init 196 = .ok (.newarray .int, 2) := dk_188_10 (dk_at dksX7_init_8 10 rfl rfl)
theorem dX7_init_198 : decode cX7_init 198 = .ok (.putfield 83, 3) := dk_181 0 83 (dk_at dksX7_init_8 12 rfl rfl)
theorem dX7_init_201 : decode cX7_init 201 = .ok (.aload_n 0, 1) := dk_42 (dk_at dksX7_init_8 15 rfl rfl)
theorem dX7_init_202 : decode cX7_init 202 = .ok (.bipush 7, 2) := dk_16 7 (dk_at dksX7_init_8 16 rfl rfl)
theorem dX7_init_204 : decode cX7_init 204 = .ok (.newarray .int, 2) := dk_188_10 (dk_at dksX7_init_8 18 rfl rfl)
theorem dX7_init_206 : decode cX7_init 206 = .ok (.putfield 86, 3) := dk_181 0 86 (dk_at dksX7_init_8 20 rfl rfl)
theorem dX7_init_209 : decode cX7_init 209 = .ok (.aload_n 0, 1) := dk_42 (dk_at dksX7_init_8 23 rfl rfl)
theorem dX7_init_210 : decode cX7_init 210 = .ok (.bipush 10, 2) := dk_16 10 (dk_at dksX7_init_9 0 rfl rfl)
theorem dX7_init_212 : decode cX7_init 212 = .ok (.newarray .boolean, 2) := dk_188_4 (dk_at dksX7_init_9 2 rfl rfl)
theorem dX7_init_214 : decode cX7_init 214 = .ok (.putfield 89, 3) := dk_181 0 89 (dk_at dksX7_init_9 4 rfl rfl)
theorem dX7_init_217 : decode cX7_init 217 = .ok (.aload_n 0, 1) := dk_42 (dk_at dksX7_init_9 7 rfl rfl)
theorem dX7_init_218 : decode cX7_init 218 = .ok (.bipush 8, 2) := dk_16 8 (dk_at dksX7_init_9 8 rfl rfl)
theorem dX7_init_220 : decode cX7_init 220 = .ok (.newarray .int, 2) := dk_188_10 (dk_at dksX7_init_9 10 rfl rfl)
theorem dX7_init_222 : decode cX7_init 222 = .ok (.putfield 92, 3) := dk_181 0 92 (dk_at dksX7_init_9 12 rfl rfl)
theorem dX7_init_225 : decode cX7_init 225 = .ok (.aload_n 0, 1) := dk_42 (dk_at dksX7_init_9 15 rfl rfl)
theorem dX7_init_226 : decode cX7_init 226 = .ok (.bipush 8, 2) := dk_16 8 (dk_at dksX7_init_9 16 rfl rfl)
theorem dX7_init_228 : decode cX7_init 228 = .ok (.newarray .int, 2) := dk_188_10 (dk_at dksX7_init_9 18 rfl rfl)
theorem dX7_init_230 : decode cX7_init 230 = .ok (.putfield 95, 3) := dk_181 0 95 (dk_at dksX7_init_9 20 rfl rfl)
theorem dX7_init_233 : decode cX7_init 233 = .ok (.aload_n 0, 1) := dk_42 (dk_at dksX7_init_9 23 rfl rfl)
theorem dX7_init_234 : decode cX7_init 234 = .ok (.bipush 20, 2) := dk_16 20 (dk_at dksX7_init_10 0 rfl rfl)
theorem dX7_init_236 : decode cX7_init 236 = .ok (.newarray .int, 2) := dk_188_10 (dk_at dksX7_init_10 2 rfl rfl)
theorem dX7_init_238 : decode cX7_init 238 = .ok (.putfield 98, 3) := dk_181 0 98 (dk_at dksX7_init_10 4 rfl rfl)
theorem dX7_init_241 : decode cX7_init 241 = .ok (.aload_n 0, 1) := dk_42 (dk_at dksX7_init_10 7 rfl rfl)
theorem dX7_init_242 : decode cX7_init 242 = .ok (.bipush 7, 2) := dk_16 7 (dk_at dksX7_init_10 8 rfl rfl)
theorem dX7_init_244 : decode cX7_init 244 = .ok (.newarray .int, 2) := dk_188_10 (dk_at dksX7_init_10 10 rfl rfl)
theorem dX7_init_246 : decode cX7_init 246 = .ok (.putfield 101, 3) := dk_181 0 101 (dk_at dksX7_init_10 12 rfl rfl)
theorem dX7_init_249 : decode cX7_init 249 = .ok (.aload_n 0, 1) := dk_42 (dk_at dksX7_init_10 15 rfl rfl)
theorem dX7_init_250 : decode cX7_init 250 = .ok (.bipush 7, 2) := dk_16 7 (dk_at dksX7_init_10 16 rfl rfl)
theorem dX7_init_252 : decode cX7_init 252 = .ok (.newarray .int, 2) := dk_188_10 (dk_at dksX7_init_10 18 rfl rfl)
theorem dX7_init_254 : decode cX7_init 254 = .ok (.putfield 104, 3) := dk_181 0 104 (dk_at dksX7_init_10 20 rfl rfl)
theorem dX7_init_257 : decode cX7_init 257 = .ok (.aload_n 0, 1) := dk_42 (dk_at dksX7_init_10 23 rfl rfl)
theorem dX7_init_258 : decode cX7_init 258 = .ok (.bipush 7, 2) := dk_16 7 (dk_at dksX7_init_11 0 rfl rfl)
theorem dX7_init_260 : decode cX7_init 260 = .ok (.newarray .int, 2) := dk_188_10 (dk_at dksX7_init_11 2 rfl rfl)
theorem dX7_init_262 : decode cX7_init 262 = .ok (.putfield 107, 3) := dk_181 0 107 (dk_at dksX7_init_11 4 rfl rfl)
theorem dX7_init_265 : decode cX7_init 265 = .ok (.aload_n 0, 1) := dk_42 (dk_at dksX7_init_11 7 rfl rfl)
theorem dX7_init_266 : decode cX7_init 266 = .ok (.bipush 7, 2) := dk_16 7 (dk_at dksX7_init_11 8 rfl rfl)
theorem dX7_init_268 : decode cX7_init 268 = .ok (.newarray .int, 2) := dk_188_10 (dk_at dksX7_init_11 10 rfl rfl)
theorem dX7_init_270 : decode cX7_init 270 = .ok (.putfield 110, 3) := dk_181 0 110 (dk_at dksX7_init_11 12 rfl rfl)
theorem dX7_init_273 : decode cX7_init 273 = .ok (.aload_n 0, 1) := dk_42 (dk_at dksX7_init_11 15 rfl rfl)
theorem dX7_init_274 : decode cX7_init 274 = .ok (.getfield 7, 3) := dk_180 0 7 (dk_at dksX7_init_11 16 rfl rfl)
theorem dX7_init_277 : decode cX7_init 277 = .ok (.bipush 9, 2) := dk_16 9 (dk_at dksX7_init_11 19 rfl rfl)
theorem dX7_init_279 : decode cX7_init 279 = .ok (.bipush 20, 2) := dk_16 20 (dk_at dksX7_init_11 21 rfl rfl)
theorem dX7_init_281 : decode cX7_init 281 = .ok (.iastore, 1) := dk_79 (dk_at dksX7_init_11 23 rfl rfl)
theorem dX7_init_282 : decode cX7_init 282 = .ok (.return_, 1) := dk_177 (dk_at dksX7_init_12 0 rfl rfl)
def dkwX7_image_2 : List UInt8 := [132, 2, 1, 167, 255, 228, 42, 180, 0, 17, 27, 4, 84, 42, 3, 182, 0, 125, 172]
abbrev dktX7_image_2 : List UInt8 := dkwX7_image_2 ++ []
def dkwX7_image_1 : List UInt8 := [17, 89, 232, 162, 0, 27, 42, 180, 0, 14, 17, 89, 232, 27, 104, 28, 96, 42, 180, 0, 7, 28, 46, 79]
abbrev dktX7_image_1 : List UInt8 := dkwX7_image_1 ++ dktX7_image_2
def dkwX7_image_0 : List UInt8 := [42, 3, 181, 0, 113, 27, 133, 9, 10, 184, 0, 121, 154, 0, 9, 42, 2, 182, 0, 125, 172, 3, 61, 28]
abbrev dktX7_image_0 : List UInt8 := dkwX7_image_0 ++ dktX7_image_1
theorem dksX7_image_0 : cX7_image.data.toList.drop 0 = dktX7_image_0 := by decide +kernel
theorem dksX7_image_1 : cX7_image.data.toList.drop 24 = dktX7_image_1 := dk_seg dksX7_image_0 24 rfl rfl
theorem dksX7_image_2 : cX7_image.data.toList.drop 48 = dktX7_image_2 := dk_seg dksX7_image_1 24 rfl rfl
theorem dX7_image_0 : decode cX7_image 0 = .ok (.aload_n 0, 1) := dk_42 (dk_at dksX7_image_0 0 rfl rfl)
theorem dX7_image_1 : decode cX7_image 1 = .ok (.iconst 0, 1) := dk_3 (dk_at dksX7_image_0 1 rfl rfl)
theorem dX7_image_2 : decode cX7_image 2 = .ok (.putfield 113, 3) := dk_181 0 113 (dk_at dksX7_image_0 2 rfl rfl)
theorem dX7_image_5 : decode cX7_image 5 = .ok (.iload_n 1, 1) := dk_27 (dk_at dksX7_image_0 5 rfl rfl)
theorem dX7_image_6 : decode cX7_image 6 = .ok (.i2l, 1) := dk_133 (dk_at dksX7_image_0 6 rfl rfl)
theorem dX7_image_7 : decode cX7_image 7 = .ok (.lconst 0, 1) := dk_9 (dk_at dksX7_image_0 7 rfl rfl)
theorem dX7_image_8 : decode cX7_image 8 = .ok (.lconst 1, 1) := dk_10 (dk_at dksX7_image_0 8 rfl rfl)
theorem dX7_image_9 : decode cX7_image 9 = .ok (.invokestatic 121, 3) := dk_184 0 121 (dk_at dksX7_image_0 9 rfl rfl)
theorem dX7_image_12 : decode cX7_image 12 = .ok (.ifCond .ne 9, 3) := dk_154 0 9 (dk_at dksX7_image_0 12 rfl rfl)
theorem dX7_image_15 : decode cX7_image 15 = .ok (.aload_n 0, 1) := dk_42 (dk_at dksX7_image_0 15 rfl rfl)
theorem dX7_image_16 : decode cX7_image 16 = .ok (.iconst (-1), 1) := dk_2 (dk_at dksX7_image_0 16 rfl rfl)
theorem dX7_image_17 : decode cX7_image 17 = .ok (.invokevirtual 125, 3) := dk_182 0 125 (dk_at dksX7_image_0 17 rfl rfl)
theorem dX7_image_20 : decode cX7_image 20 = .ok (.ireturn, 1) := dk_172 (dk_at dksX7_image_0 20 rfl rfl)
theorem dX7_image_21 : decode cX7_image 21 = .ok (.iconst 0, 1) := dk_3 (dk_at dksX7_image_0 21 rfl rfl)
theorem dX7_image_22 : decode cX7_image 22 = .ok (.istore_n 2, 1) := dk_61 (dk_at dksX7_image_0 22 rfl rfl)
theorem dX7_image_23 : decode cX7_image 23 = .ok (.iload_n 2, 1) := dk_28 (dk_at dksX7_image_0 23 rfl rfl)
theorem dX7_image_24 : decode cX7_image 24 = .ok (.sipush 23016, 3) := dk_17 89 232 (dk_at dksX7_image_1 0 rfl rfl)
theorem dX7_image_27 : decode cX7_image 27 = .ok (.if_icmp .ge 27, 3) := dk_162 0 27 (dk_at dksX7_image_1 3 rfl rfl)
theorem dX7_image_30 : decode cX7_image 30 = .ok (.aload_n 0, 1) := dk_42 (dk_at dksX7_image_1 6 rfl rfl)
theorem dX7_image_31 : decode cX7_image 31 = .ok (.getfield 14, 3) := dk_180 0 14 (dk_at dksX7_image_1 7 rfl rfl)
theorem dX7_image_34 : decode cX7_image 34 = .ok (.sipush 23016, 3) := dk_17 89 232 (dk_at dksX7_image_1 10 rfl rfl)
theorem dX7_image_37 : decode cX7_image 37 = .ok (.iload_n 1, 1) := dk_27 (dk_at dksX7_image_1 13 rfl rfl)
theorem dX7_image_38 : decode cX7_image 38 = .ok (.imul, 1) := dk_104 (dk_at dksX7_image_1 14 rfl rfl)
theorem dX7_image_39 : decode cX7_image 39 = .ok (.iload_n 2, 1) := dk_28 (dk_at dksX7_image_1 15 rfl rfl)
theorem dX7_image_40 : decode cX7_image 40 = .ok (.iadd, 1) := dk_96 (dk_at dksX7_image_1 16 rfl rfl)
theorem dX7_image_41 : decode cX7_image 41 = .ok (.aload_n 0, 1) := dk_42 (dk_at dksX7_image_1 17 rfl rfl)
theorem dX7_image_42 : decode cX7_image 42 = .ok (.getfield 7, 3) := dk_180 0 7 (dk_at dksX7_image_1 18 rfl rfl)
theorem dX7_image_45 : decode cX7_image 45 = .ok (.iload_n 2, 1) := dk_28 (dk_at dksX7_image_1 21 rfl rfl)
theorem dX7_image_46 : decode cX7_image 46 = .ok (.iaload, 1) := dk_46 (dk_at dksX7_image_1 22 rfl rfl)
theorem dX7_image_47 : decode cX7_image 47 = .ok (.iastore, 1) := dk_79 (dk_at dksX7_image_1 23 rfl rfl)
theorem dX7_image_48 : decode cX7_image 48 = .ok (.iinc 2 1, 3) := dk_132 2 1 (dk_at dksX7_image_2 0 rfl rfl)
theorem dX7_image_51 : decode cX7_image 51 = .ok (.goto (-28), 3) := dk_167 255 228 (dk_at dksX7_image_2 3 rfl rfl)
theorem dX7_image_54 : decode cX7_image 54 = .ok (.aload_n 0, 1) := dk_42 (dk_at dksX7_image_2 6 rfl rfl)
theorem dX7_image_55 : decode cX7_image 55 = .ok (.getfield 17, 3) := dk_180 0 17 (dk_at dksX7_image_2 7 rfl rfl)
theorem dX7_image_58 : decode cX7_image 58 = .ok (.iload_n 1, 1) := dk_27 (dk_at dksX7_image_2 10 rfl rfl)
theorem dX7_image_59 : decode cX7_image 59 = .ok (.iconst 1, 1) := dk_4 (dk_at dksX7_image_2 11 rfl rfl)
theorem dX7_image_60 : decode cX7_image 60 = .ok (.bastore, 1) := dk_84 (dk_at dksX7_image_2 12 rfl rfl)
theorem dX7_image_61 : decode cX7_image 61 = .ok (.aload_n 0, 1) := dk_42 (dk_at dksX7_image_2 13 rfl rfl)
theorem dX7_image_62 : decode cX7_image 62 = .ok (.iconst 0, 1) := dk_3 (dk_at dksX7_image_2 14 rfl rfl)
theorem dX7_image_63 : decode cX7_image 63 = .ok (.invokevirtual 125, 3) := dk_182 0 125 (dk_at dksX7_image_2 15 rfl rfl)
theorem dX7_image_66 : decode cX7_image 66 = .ok (.ireturn, 1) := dk_172 (dk_at dksX7_image_2 18 rfl rfl)
def dkwX7_in_0 : List UInt8 := [30, 32, 148, 155, 0, 14, 30, 22, 4, 148, 157, 0, 7, 4, 167, 0, 4, 3, 172]
abbrev dktX7_in_0 : List UInt8 := dkwX7_in_0 ++ []
theorem dksX7_in_0 : cX7_in.data.toList.drop 0 = dktX7_in_0 := by decide +kernel
theorem dX7_in_0 : decode cX7_in 0 = .ok (.lload_n 0, 1) := dk_30 (dk_at dksX7_in_0 0 rfl rfl)
theorem dX7_in_1 : decode cX7_in 1 = .ok (.lload_n 2, 1) := dk_32 (dk_at dksX7_in_0 1 rfl rfl)
theorem dX7_in_2 : decode cX7_in 2 = .ok (.lcmp, 1) := dk_148 (dk_at dksX7_in_0 2 rfl rfl)
theorem dX7_in_3 : decode cX7_in 3 = .ok (.ifCond .lt 14, 3) := dk_155 0 14 (dk_at dksX7_in_0 3 rfl rfl)
theorem dX7_in_6 : decode cX7_in 6 = .ok (.lload_n 0, 1) := dk_30 (dk_at dksX7_in_0 6 rfl rfl)
theorem dX7_in_7 : decode cX7_in 7 = .ok (.lload 4, 2) := dk_22 4 (dk_at dksX7_in_0 7 rfl rfl)
theorem dX7_in_9 : decode cX7_in 9 = .ok (.lcmp, 1) := dk_148 (dk_at dksX7_in_0 9 rfl rfl)
theorem dX7_in_10 : decode cX7_in 10 = .ok (.ifCond .gt 7, 3) := dk_157 0 7 (dk_at dksX7_in_0 10 rfl rfl)
theorem dX7_in_13 : decode cX7_in 13 = .ok (.iconst 1, 1) := dk_4 (dk_at dksX7_in_0 13 rfl rfl)
theorem dX7_in_14 : decode cX7_in 14 = .ok (.goto 4, 3) := dk_167 0 4 (dk_at dksX7_in_0 14 rfl rfl)
theorem dX7_in_17 : decode cX7_in 17 = .ok (.iconst 0, 1) := dk_3 (dk_at dksX7_in_0 17 rfl rfl)
theorem dX7_in_18 : decode cX7_in 18 = .ok (.ireturn, 1) := dk_172 (dk_at dksX7_in_0 18 rfl rfl)
def dkwX7_told_0 : List UInt8 := [42, 27, 156, 0, 7, 27, 167, 0, 4, 3, 181, 0, 116, 27, 172]
abbrev dktX7_told_0 : List UInt8 := dkwX7_told_0 ++ []
theorem dksX7_told_0 : cX7_told.data.toList.drop 0 = dktX7_told_0 := by decide +kernel
theorem dX7_told_0 : decode cX7_told 0 = .ok (.aload_n 0, 1) := dk_42 (dk_at dksX7_told_0 0 rfl rfl)
theorem dX7_told_1 : decode cX7_told 1 = .ok (.iload_n 1, 1) := dk_27 (dk_at dksX7_told_0 1 rfl rfl)
theorem dX7_told_2 : decode cX7_told 2 = .ok (.ifCond .ge 7, 3) := dk_156 0 7 (dk_at dksX7_told_0 2 rfl rfl)
theorem dX7_told_5 : decode cX7_told 5 = .ok (.iload_n 1, 1) := dk_27 (dk_at dksX7_told_0 5 rfl rfl)
theorem dX7_told_6 : decode cX7_told 6 = .ok (.goto 4, 3) := dk_167 0 4 (dk_at dksX7_told_0 6 rfl rfl)
theorem dX7_told_9 : decode cX7_told 9 = .ok (.iconst 0, 1) := dk_3 (dk_at dksX7_told_0 9 rfl rfl)
theorem dX7_told_10 : decode cX7_told 10 = .ok (.putfield 116, 3) := dk_181 0 116 (dk_at dksX7_told_0 10 rfl rfl)
theorem dX7_told_13 : decode cX7_told 13 = .ok (.iload_n 1, 1) := dk_27 (dk_at dksX7_told_0 13 rfl rfl)
theorem dX7_told_14 : decode cX7_told 14 = .ok (.ireturn, 1) := dk_172 (dk_at dksX7_told_0 14 rfl rfl)
def dkwX7_back_3 : List UInt8 := [42, 3, 182, 0, 125, 172]
abbrev dktX7_back_3 : List UInt8 := dkwX7_back_3 ++ []
def dkwX7_back_2 : List UInt8 := [42, 180, 0, 7, 28, 42, 180, 0, 14, 17, 89, 232, 27, 104, 28, 96, 46, 79, 132, 2, 1, 167, 255, 228]
abbrev dktX7_back_2 : List UInt8 := dkwX7_back_2 ++ dktX7_back_3
def dkwX7_back_1 : List UInt8 := [180, 0, 17, 27, 51, 154, 0, 10, 42, 16, 254, 182, 0, 125, 172, 3, 61, 28, 17, 89, 232, 162, 0, 27]
abbrev dktX7_back_1 : List UInt8 := dkwX7_back_1 ++ dktX7_back_2
def dkwX7_back_0 : List UInt8 := [42, 3, 181, 0, 113, 27, 133, 9, 10, 184, 0, 121, 154, 0, 9, 42, 2, 182, 0, 125, 172, 42]
abbrev dktX7_back_0 : List UInt8 := dkwX7_back_0 ++ dktX7_back_1
theorem dksX7_back_0 : cX7_back.data.toList.drop 0 = dktX7_back_0 := by decide +kernel
theorem dksX7_back_1 : cX7_back.data.toList.drop 22 = dktX7_back_1 := dk_seg dksX7_back_0 22 rfl rfl
theorem dksX7_back_2 : cX7_back.data.toList.drop 46 = dktX7_back_2 := dk_seg dksX7_back_1 24 rfl rfl
theorem dksX7_back_3 : cX7_back.data.toList.drop 70 = dktX7_back_3 := dk_seg dksX7_back_2 24 rfl rfl
theorem dX7_back_0 : decode cX7_back 0 = .ok (.aload_n 0, 1) := dk_42 (dk_at dksX7_back_0 0 rfl rfl)
theorem dX7_back_1 : decode cX7_back 1 = .ok (.iconst 0, 1) := dk_3 (dk_at dksX7_back_0 1 rfl rfl)
theorem dX7_back_2 : decode cX7_back 2 = .ok (.putfield 113, 3) := dk_181 0 113 (dk_at dksX7_back_0 2 rfl rfl)
theorem dX7_back_5 : decode cX7_back 5 = .ok (.iload_n 1, 1) := dk_27 (dk_at dksX7_back_0 5 rfl rfl)
theorem dX7_back_6 : decode cX7_back 6 = .ok (.i2l, 1) := dk_133 (dk_at dksX7_back_0 6 rfl rfl)
theorem dX7_back_7 : decode cX7_back 7 = .ok (.lconst 0, 1) := dk_9 (dk_at dksX7_back_0 7 rfl rfl)
theorem dX7_back_8 : decode cX7_back 8 = .ok (.lconst 1, 1) := dk_10 (dk_at dksX7_back_0 8 rfl rfl)
theorem dX7_back_9 : decode cX7_back 9 = .ok (.invokestatic 121, 3) := dk_184 0 121 (dk_at dksX7_back_0 9 rfl rfl)
theorem dX7_back_12 : decode cX7_back 12 = .ok (.ifCond .ne 9, 3) := dk_154 0 9 (dk_at dksX7_back_0 12 rfl rfl)
theorem dX7_back_15 : decode cX7_back 15 = .ok (.aload_n 0, 1) := dk_42 (dk_at dksX7_back_0 15 rfl rfl)
theorem dX7_back_16 : decode cX7_back 16 = .ok (.iconst (-1), 1) := dk_2 (dk_at dksX7_back_0 16 rfl rfl)
theorem dX7_back_17 : decode cX7_back 17 = .ok (.invokevirtual 125, 3) := dk_182 0 125 (dk_at dksX7_back_0 17 rfl rfl)
theorem dX7_back_20 : decode cX7_back 20 = .ok (.ireturn, 1) := dk_172 (dk_at dksX7_back_0 20 rfl rfl)
theorem dX7_back_21 : decode cX7_back 21 = .ok (.aload_n 0, 1) := dk_42 (dk_at dksX7_back_0 21 rfl rfl)
theorem dX7_back_22 : decode cX7_back 22 = .ok (.getfield 17, 3) := dk_180 0 17 (dk_at dksX7_back_1 0 rfl rfl)
theorem dX7_back_25 : decode cX7_back 25 = .ok (.iload_n 1, 1) := dk_27 (dk_at dksX7_back_1 3 rfl rfl)
theorem dX7_back_26 : decode cX7_back 26 = .ok (.baload, 1) := dk_51 (dk_at dksX7_back_1 4 rfl rfl)
theorem dX7_back_27 : decode cX7_back 27 = .ok (.ifCond .ne 10, 3) := dk_154 0 10 (dk_at dksX7_back_1 5 rfl rfl)
theorem dX7_back_30 : decode cX7_back 30 = .ok (.aload_n 0, 1) := dk_42 (dk_at dksX7_back_1 8 rfl rfl)
theorem dX7_back_31 : decode cX7_back 31 = .ok (.bipush (-2), 2) := dk_16 254 (dk_at dksX7_back_1 9 rfl rfl)
theorem dX7_back_33 : decode cX7_back 33 = .ok (.invokevirtual 125, 3) := dk_182 0 125 (dk_at dksX7_back_1 11 rfl rfl)
theorem dX7_back_36 : decode cX7_back 36 = .ok (.ireturn, 1) := dk_172 (dk_at dksX7_back_1 14 rfl rfl)
theorem dX7_back_37 : decode cX7_back 37 = .ok (.iconst 0, 1) := dk_3 (dk_at dksX7_back_1 15 rfl rfl)
theorem dX7_back_38 : decode cX7_back 38 = .ok (.istore_n 2, 1) := dk_61 (dk_at dksX7_back_1 16 rfl rfl)
theorem dX7_back_39 : decode cX7_back 39 = .ok (.iload_n 2, 1) := dk_28 (dk_at dksX7_back_1 17 rfl rfl)
theorem dX7_back_40 : decode cX7_back 40 = .ok (.sipush 23016, 3) := dk_17 89 232 (dk_at dksX7_back_1 18 rfl rfl)
theorem dX7_back_43 : decode cX7_back 43 = .ok (.if_icmp .ge 27, 3) := dk_162 0 27 (dk_at dksX7_back_1 21 rfl rfl)
theorem dX7_back_46 : decode cX7_back 46 = .ok (.aload_n 0, 1) := dk_42 (dk_at dksX7_back_2 0 rfl rfl)
theorem dX7_back_47 : decode cX7_back 47 = .ok (.getfield 7, 3) := dk_180 0 7 (dk_at dksX7_back_2 1 rfl rfl)
theorem dX7_back_50 : decode cX7_back 50 = .ok (.iload_n 2, 1) := dk_28 (dk_at dksX7_back_2 4 rfl rfl)
theorem dX7_back_51 : decode cX7_back 51 = .ok (.aload_n 0, 1) := dk_42 (dk_at dksX7_back_2 5 rfl rfl)
theorem dX7_back_52 : decode cX7_back 52 = .ok (.getfield 14, 3) := dk_180 0 14 (dk_at dksX7_back_2 6 rfl rfl)
theorem dX7_back_55 : decode cX7_back 55 = .ok (.sipush 23016, 3) := dk_17 89 232 (dk_at dksX7_back_2 9 rfl rfl)
theorem dX7_back_58 : decode cX7_back 58 = .ok (.iload_n 1, 1) := dk_27 (dk_at dksX7_back_2 12 rfl rfl)
theorem dX7_back_59 : decode cX7_back 59 = .ok (.imul, 1) := dk_104 (dk_at dksX7_back_2 13 rfl rfl)
theorem dX7_back_60 : decode cX7_back 60 = .ok (.iload_n 2, 1) := dk_28 (dk_at dksX7_back_2 14 rfl rfl)
theorem dX7_back_61 : decode cX7_back 61 = .ok (.iadd, 1) := dk_96 (dk_at dksX7_back_2 15 rfl rfl)
theorem dX7_back_62 : decode cX7_back 62 = .ok (.iaload, 1) := dk_46 (dk_at dksX7_back_2 16 rfl rfl)
theorem dX7_back_63 : decode cX7_back 63 = .ok (.iastore, 1) := dk_79 (dk_at dksX7_back_2 17 rfl rfl)
theorem dX7_back_64 : decode cX7_back 64 = .ok (.iinc 2 1, 3) := dk_132 2 1 (dk_at dksX7_back_2 18 rfl rfl)
theorem dX7_back_67 : decode cX7_back 67 = .ok (.goto (-28), 3) := dk_167 255 228 (dk_at dksX7_back_2 21 rfl rfl)
theorem dX7_back_70 : decode cX7_back 70 = .ok (.aload_n 0, 1) := dk_42 (dk_at dksX7_back_3 0 rfl rfl)
theorem dX7_back_71 : decode cX7_back 71 = .ok (.iconst 0, 1) := dk_3 (dk_at dksX7_back_3 1 rfl rfl)
theorem dX7_back_72 : decode cX7_back 72 = .ok (.invokevirtual 125, 3) := dk_182 0 125 (dk_at dksX7_back_3 2 rfl rfl)
theorem dX7_back_75 : decode cX7_back 75 = .ok (.ireturn, 1) := dk_172 (dk_at dksX7_back_3 5 rfl rfl)
def dkwX7_place_5 : List UInt8 := [3, 46, 4, 100, 182, 0, 125, 172]
abbrev dktX7_place_5 : List UInt8 := dkwX7_place_5 ++ []
def dkwX7_place_4 : List UInt8 := [180, 0, 7, 21, 4, 5, 96, 29, 79, 42, 180, 0, 7, 3, 92, 46, 4, 96, 79, 42, 42, 180, 0, 7]
abbrev dktX7_place_4 : List UInt8 := dkwX7_place_4 ++ dktX7_place_5
def dkwX7_place_3 : List UInt8 := [184, 0, 133, 54, 4, 42, 180, 0, 7, 21, 4, 27, 79, 42, 180, 0, 7, 21, 4, 4, 96, 28, 79, 42]
abbrev dktX7_place_3 : List UInt8 := dkwX7_place_3 ++ dktX7_place_4
def dkwX7_place_2 : List UInt8 := [42, 180, 0, 7, 3, 46, 16, 16, 160, 0, 10, 42, 16, 251, 182, 0, 125, 172, 42, 180, 0, 7, 3, 46]
abbrev dktX7_place_2 : List UInt8 := dkwX7_place_2 ++ dktX7_place_3
def dkwX7_place_1 : List UInt8 := [184, 0, 121, 153, 0, 15, 29, 133, 9, 20, 0, 131, 184, 0, 121, 154, 0, 9, 42, 2, 182, 0, 125, 172]
abbrev dktX7_place_1 : List UInt8 := dkwX7_place_1 ++ dktX7_place_2
def dkwX7_place_0 : List UInt8 := [42, 3, 181, 0, 113, 27, 133, 9, 20, 0, 129, 184, 0, 121, 153, 0, 27, 28, 133, 9, 20, 0, 131]
abbrev dktX7_place_0 : List UInt8 := dkwX7_place_0 ++ dktX7_place_1
theorem dksX7_place_0 : cX7_place.data.toList.drop 0 = dktX7_place_0 := by decide +kernel
theorem dksX7_place_1 : cX7_place.data.toList.drop 23 = dktX7_place_1 := dk_seg dksX7_place_0 23 rfl rfl
theorem dksX7_place_2 : cX7_place.data.toList.drop 47 = dktX7_place_2 := dk_seg dksX7_place_1 24 rfl rfl
theorem dksX7_place_3 : cX7_place.data.toList.drop 71 = dktX7_place_3 := dk_seg dksX7_place_2 24 rfl rfl
theorem dksX7_place_4 : cX7_place.data.toList.drop 95 = dktX7_place_4 := dk_seg dksX7_place_3 24 rfl rfl
theorem dksX7_place_5 : cX7_place.data.toList.drop 119 = dktX7_place_5 := dk_seg dksX7_place_4 24 rfl rfl
theorem dX7_place_0 : decode cX7_place 0 = .ok (.aload_n 0, 1) := dk_42 (dk_at dksX7_place_0 0 rfl rfl)
theorem dX7_place_1 : decode cX7_place 1 = .ok (.iconst 0, 1) := dk_3 (dk_at dksX7_place_0 1 rfl rfl)
theorem dX7_place_2 : decode cX7_place 2 = .ok (.putfield 113, 3) := dk_181 0 113 (dk_at dksX7_place_0 2 rfl rfl)
theorem dX7_place_5 : decode cX7_place 5 = .ok (.iload_n 1, 1) := dk_27 (dk_at dksX7_place_0 5 rfl rfl)
theorem dX7_place_6 : decode cX7_place 6 = .ok (.i2l, 1) := dk_133 (dk_at dksX7_place_0 6 rfl rfl)
theorem dX7_place_7 : decode cX7_place 7 = .ok (.lconst 0, 1) := dk_9 (dk_at dksX7_place_0 7 rfl rfl)
theorem dX7_place_8 : decode cX7_place 8 = .ok (.ldc2_w 129, 3) := dk_20 0 129 (dk_at dksX7_place_0 8 rfl rfl)
theorem dX7_place_11 : decode cX7_place 11 = .ok (.invokestatic 121, 3) := dk_184 0 121 (dk_at dksX7_place_0 11 rfl rfl)
theorem dX7_place_14 : decode cX7_place 14 = .ok (.ifCond .eq 27, 3) := dk_153 0 27 (dk_at dksX7_place_0 14 rfl rfl)
theorem dX7_place_17 : decode cX7_place 17 = .ok (.iload_n 2, 1) := dk_28 (dk_at dksX7_place_0 17 rfl rfl)
theorem dX7_place_18 : decode cX7_place 18 = .ok (.i2l, 1) := dk_133 (dk_at dksX7_place_0 18 rfl rfl)
theorem dX7_place_19 : decode cX7_place 19 = .ok (.lconst 0, 1) := dk_9 (dk_at dksX7_place_0 19 rfl rfl)
theorem dX7_place_20 : decode cX7_place 20 = .ok (.ldc2_w 131, 3) := dk_20 0 131 (dk_at dksX7_place_0 20 rfl rfl)
theorem dX7_place_23 : decode cX7_place 23 = .ok (.invokestatic 121, 3) := dk_184 0 121 (dk_at dksX7_place_1 0 rfl rfl)
theorem dX7_place_26 : decode cX7_place 26 = .ok (.ifCond .eq 15, 3) := dk_153 0 15 (dk_at dksX7_place_1 3 rfl rfl)
theorem dX7_place_29 : decode cX7_place 29 = .ok (.iload_n 3, 1) := dk_29 (dk_at dksX7_place_1 6 rfl rfl)
theorem dX7_place_30 : decode cX7_place 30 = .ok (.i2l, 1) := dk_133 (dk_at dksX7_place_1 7 rfl rfl)
theorem dX7_place_31 : decode cX7_place 31 = .ok (.lconst 0, 1) := dk_9 (dk_at dksX7_place_1 8 rfl rfl)
theorem dX7_place_32 : decode cX7_place 32 = .ok (.ldc2_w 131, 3) := dk_20 0 131 (dk_at dksX7_place_1 9 rfl rfl)
theorem dX7_place_35 : decode cX7_place 35 = .ok (.invokestatic 121, 3) := dk_184 0 121 (dk_at dksX7_place_1 12 rfl rfl)
theorem dX7_place_38 : decode cX7_place 38 = .ok (.ifCond .ne 9, 3) := dk_154 0 9 (dk_at dksX7_place_1 15 rfl rfl)
theorem dX7_place_41 : decode cX7_place 41 = .ok (.aload_n 0, 1) := dk_42 (dk_at dksX7_place_1 18 rfl rfl)
theorem dX7_place_42 : decode cX7_place 42 = .ok (.iconst (-1), 1) := dk_2 (dk_at dksX7_place_1 19 rfl rfl)
theorem dX7_place_43 : decode cX7_place 43 = .ok (.invokevirtual 125, 3) := dk_182 0 125 (dk_at dksX7_place_1 20 rfl rfl)
theorem dX7_place_46 : decode cX7_place 46 = .ok (.ireturn, 1) := dk_172 (dk_at dksX7_place_1 23 rfl rfl)
theorem dX7_place_47 : decode cX7_place 47 = .ok (.aload_n 0, 1) := dk_42 (dk_at dksX7_place_2 0 rfl rfl)
theorem dX7_place_48 : decode cX7_place 48 = .ok (.getfield 7, 3) := dk_180 0 7 (dk_at dksX7_place_2 1 rfl rfl)
theorem dX7_place_51 : decode cX7_place 51 = .ok (.iconst 0, 1) := dk_3 (dk_at dksX7_place_2 4 rfl rfl)
theorem dX7_place_52 : decode cX7_place 52 = .ok (.iaload, 1) := dk_46 (dk_at dksX7_place_2 5 rfl rfl)
theorem dX7_place_53 : decode cX7_place 53 = .ok (.bipush 16, 2) := dk_16 16 (dk_at dksX7_place_2 6 rfl rfl)
theorem dX7_place_55 : decode cX7_place 55 = .ok (.if_icmp .ne 10, 3) := dk_160 0 10 (dk_at dksX7_place_2 8 rfl rfl)
theorem dX7_place_58 : decode cX7_place 58 = .ok (.aload_n 0, 1) := dk_42 (dk_at dksX7_place_2 11 rfl rfl)
theorem dX7_place_59 : decode cX7_place 59 = .ok (.bipush (-5), 2) := dk_16 251 (dk_at dksX7_place_2 12 rfl rfl)
theorem dX7_place_61 : decode cX7_place 61 = .ok (.invokevirtual 125, 3) := dk_182 0 125 (dk_at dksX7_place_2 14 rfl rfl)
theorem dX7_place_64 : decode cX7_place 64 = .ok (.ireturn, 1) := dk_172 (dk_at dksX7_place_2 17 rfl rfl)
theorem dX7_place_65 : decode cX7_place 65 = .ok (.aload_n 0, 1) := dk_42 (dk_at dksX7_place_2 18 rfl rfl)
theorem dX7_place_66 : decode cX7_place 66 = .ok (.getfield 7, 3) := dk_180 0 7 (dk_at dksX7_place_2 19 rfl rfl)
theorem dX7_place_69 : decode cX7_place 69 = .ok (.iconst 0, 1) := dk_3 (dk_at dksX7_place_2 22 rfl rfl)
theorem dX7_place_70 : decode cX7_place 70 = .ok (.iaload, 1) := dk_46 (dk_at dksX7_place_2 23 rfl rfl)
theorem dX7_place_71 : decode cX7_place 71 = .ok (.invokestatic 133, 3) := dk_184 0 133 (dk_at dksX7_place_3 0 rfl rfl)
theorem dX7_place_74 : decode cX7_place 74 = .ok (.istore 4, 2) := dk_54 4 (dk_at dksX7_place_3 3 rfl rfl)
theorem dX7_place_76 : decode cX7_place 76 = .ok (.aload_n 0, 1) := dk_42 (dk_at dksX7_place_3 5 rfl rfl)
theorem dX7_place_77 : decode cX7_place 77 = .ok (.getfield 7, 3) := dk_180 0 7 (dk_at dksX7_place_3 6 rfl rfl)
theorem dX7_place_80 : decode cX7_place 80 = .ok (.iload 4, 2) := dk_21 4 (dk_at dksX7_place_3 9 rfl rfl)
theorem dX7_place_82 : decode cX7_place 82 = .ok (.iload_n 1, 1) := dk_27 (dk_at dksX7_place_3 11 rfl rfl)
theorem dX7_place_83 : decode cX7_place 83 = .ok (.iastore, 1) := dk_79 (dk_at dksX7_place_3 12 rfl rfl)
theorem dX7_place_84 : decode cX7_place 84 = .ok (.aload_n 0, 1) := dk_42 (dk_at dksX7_place_3 13 rfl rfl)
theorem dX7_place_85 : decode cX7_place 85 = .ok (.getfield 7, 3) := dk_180 0 7 (dk_at dksX7_place_3 14 rfl rfl)
theorem dX7_place_88 : decode cX7_place 88 = .ok (.iload 4, 2) := dk_21 4 (dk_at dksX7_place_3 17 rfl rfl)
theorem dX7_place_90 : decode cX7_place 90 = .ok (.iconst 1, 1) := dk_4 (dk_at dksX7_place_3 19 rfl rfl)
theorem dX7_place_91 : decode cX7_place 91 = .ok (.iadd, 1) := dk_96 (dk_at dksX7_place_3 20 rfl rfl)
theorem dX7_place_92 : decode cX7_place 92 = .ok (.iload_n 2, 1) := dk_28 (dk_at dksX7_place_3 21 rfl rfl)
theorem dX7_place_93 : decode cX7_place 93 = .ok (.iastore, 1) := dk_79 (dk_at dksX7_place_3 22 rfl rfl)
theorem dX7_place_94 : decode cX7_place 94 = .ok (.aload_n 0, 1) := dk_42 (dk_at dksX7_place_3 23 rfl rfl)
theorem dX7_place_95 : decode cX7_place 95 = .ok (.getfield 7, 3) := dk_180 0 7 (dk_at dksX7_place_4 0 rfl rfl)
theorem dX7_place_98 : decode cX7_place 98 = .ok (.iload 4, 2) := dk_21 4 (dk_at dksX7_place_4 3 rfl rfl)
theorem dX7_place_100 : decode cX7_place 100 = .ok (.iconst 2, 1) := dk_5 (dk_at dksX7_place_4 5 rfl rfl)
theorem dX7_place_101 : decode cX7_place 101 = .ok (.iadd, 1) := dk_96 (dk_at dksX7_place_4 6 rfl rfl)
theorem dX7_place_102 : decode cX7_place 102 = .ok (.iload_n 3, 1) := dk_29 (dk_at dksX7_place_4 7 rfl rfl)
theorem dX7_place_103 : decode cX7_place 103 = .ok (.iastore, 1) := dk_79 (dk_at dksX7_place_4 8 rfl rfl)
theorem dX7_place_104 : decode cX7_place 104 = .ok (.aload_n 0, 1) := dk_42 (dk_at dksX7_place_4 9 rfl rfl)
theorem dX7_place_105 : decode cX7_place 105 = .ok (.getfield 7, 3) := dk_180 0 7 (dk_at dksX7_place_4 10 rfl rfl)
theorem dX7_place_108 : decode cX7_place 108 = .ok (.iconst 0, 1) := dk_3 (dk_at dksX7_place_4 13 rfl rfl)
theorem dX7_place_109 : decode cX7_place 109 = .ok (.dup2, 1) := dk_92 (dk_at dksX7_place_4 14 rfl rfl)
theorem dX7_place_110 : decode cX7_place 110 = .ok (.iaload, 1) := dk_46 (dk_at dksX7_place_4 15 rfl rfl)
theorem dX7_place_111 : decode cX7_place 111 = .ok (.iconst 1, 1) := dk_4 (dk_at dksX7_place_4 16 rfl rfl)
theorem dX7_place_112 : decode cX7_place 112 = .ok (.iadd, 1) := dk_96 (dk_at dksX7_place_4 17 rfl rfl)
theorem dX7_place_113 : decode cX7_place 113 = .ok (.iastore, 1) := dk_79 (dk_at dksX7_place_4 18 rfl rfl)
theorem dX7_place_114 : decode cX7_place 114 = .ok (.aload_n 0, 1) := dk_42 (dk_at dksX7_place_4 19 rfl rfl)
theorem dX7_place_115 : decode cX7_place 115 = .ok (.aload_n 0, 1) := dk_42 (dk_at dksX7_place_4 20 rfl rfl)
theorem dX7_place_116 : decode cX7_place 116 = .ok (.getfield 7, 3) := dk_180 0 7 (dk_at dksX7_place_4 21 rfl rfl)
theorem dX7_place_119 : decode cX7_place 119 = .ok (.iconst 0, 1) := dk_3 (dk_at dksX7_place_5 0 rfl rfl)
theorem dX7_place_120 : decode cX7_place 120 = .ok (.iaload, 1) := dk_46 (dk_at dksX7_place_5 1 rfl rfl)
theorem dX7_place_121 : decode cX7_place 121 = .ok (.iconst 1, 1) := dk_4 (dk_at dksX7_place_5 2 rfl rfl)
theorem dX7_place_122 : decode cX7_place 122 = .ok (.isub, 1) := dk_100 (dk_at dksX7_place_5 3 rfl rfl)
theorem dX7_place_123 : decode cX7_place 123 = .ok (.invokevirtual 125, 3) := dk_182 0 125 (dk_at dksX7_place_5 4 rfl rfl)
theorem dX7_place_126 : decode cX7_place 126 = .ok (.ireturn, 1) := dk_172 (dk_at dksX7_place_5 7 rfl rfl)
def dkwX7_placeAt_0 : List UInt8 := [16, 20, 6, 26, 104, 96, 172]
abbrev dktX7_placeAt_0 : List UInt8 := dkwX7_placeAt_0 ++ []
theorem dksX7_placeAt_0 : cX7_placeAt.data.toList.drop 0 = dktX7_placeAt_0 := by decide +kernel
theorem dX7_placeAt_0 : decode cX7_placeAt 0 = .ok (.bipush 20, 2) := dk_16 20 (dk_at dksX7_placeAt_0 0 rfl rfl)
theorem dX7_placeAt_2 : decode cX7_placeAt 2 = .ok (.iconst 3, 1) := dk_6 (dk_at dksX7_placeAt_0 2 rfl rfl)
theorem dX7_placeAt_3 : decode cX7_placeAt 3 = .ok (.iload_n 0, 1) := dk_26 (dk_at dksX7_placeAt_0 3 rfl rfl)
theorem dX7_placeAt_4 : decode cX7_placeAt 4 = .ok (.imul, 1) := dk_104 (dk_at dksX7_placeAt_0 4 rfl rfl)
theorem dX7_placeAt_5 : decode cX7_placeAt 5 = .ok (.iadd, 1) := dk_96 (dk_at dksX7_placeAt_0 5 rfl rfl)
theorem dX7_placeAt_6 : decode cX7_placeAt 6 = .ok (.ireturn, 1) := dk_172 (dk_at dksX7_placeAt_0 6 rfl rfl)
def dkwX7_name_3 : List UInt8 := [21, 4, 21, 5, 21, 6, 182, 0, 165, 42, 42, 180, 0, 7, 4, 46, 4, 100, 182, 0, 125, 172]
abbrev dktX7_name_3 : List UInt8 := dkwX7_name_3 ++ []
def dkwX7_name_2 : List UInt8 := [42, 180, 0, 7, 4, 46, 17, 0, 200, 160, 0, 10, 42, 16, 251, 182, 0, 125, 172, 42, 27, 28, 29]
abbrev dktX7_name_2 : List UInt8 := dkwX7_name_2 ++ dktX7_name_3
def dkwX7_name_1 : List UInt8 := [154, 0, 9, 42, 2, 182, 0, 125, 172, 42, 27, 182, 0, 162, 154, 0, 10, 42, 16, 254, 182, 0, 125, 172]
abbrev dktX7_name_1 : List UInt8 := dkwX7_name_1 ++ dktX7_name_2
def dkwX7_name_0 : List UInt8 := [42, 3, 181, 0, 113, 28, 29, 21, 4, 21, 5, 184, 0, 155, 153, 0, 11, 21, 6, 184, 0, 159]
abbrev dktX7_name_0 : List UInt8 := dkwX7_name_0 ++ dktX7_name_1
theorem dksX7_name_0 : cX7_name.data.toList.drop 0 = dktX7_name_0 := by decide +kernel
theorem dksX7_name_1 : cX7_name.data.toList.drop 22 = dktX7_name_1 := dk_seg dksX7_name_0 22 rfl rfl
theorem dksX7_name_2 : cX7_name.data.toList.drop 46 = dktX7_name_2 := dk_seg dksX7_name_1 24 rfl rfl
theorem dksX7_name_3 : cX7_name.data.toList.drop 69 = dktX7_name_3 := dk_seg dksX7_name_2 23 rfl rfl
theorem dX7_name_0 : decode cX7_name 0 = .ok (.aload_n 0, 1) := dk_42 (dk_at dksX7_name_0 0 rfl rfl)
theorem dX7_name_1 : decode cX7_name 1 = .ok (.iconst 0, 1) := dk_3 (dk_at dksX7_name_0 1 rfl rfl)
theorem dX7_name_2 : decode cX7_name 2 = .ok (.putfield 113, 3) := dk_181 0 113 (dk_at dksX7_name_0 2 rfl rfl)
theorem dX7_name_5 : decode cX7_name 5 = .ok (.iload_n 2, 1) := dk_28 (dk_at dksX7_name_0 5 rfl rfl)
theorem dX7_name_6 : decode cX7_name 6 = .ok (.iload_n 3, 1) := dk_29 (dk_at dksX7_name_0 6 rfl rfl)
theorem dX7_name_7 : decode cX7_name 7 = .ok (.iload 4, 2) := dk_21 4 (dk_at dksX7_name_0 7 rfl rfl)
theorem dX7_name_9 : decode cX7_name 9 = .ok (.iload 5, 2) := dk_21 5 (dk_at dksX7_name_0 9 rfl rfl)
theorem dX7_name_11 : decode cX7_name 11 = .ok (.invokestatic 155, 3) := dk_184 0 155 (dk_at dksX7_name_0 11 rfl rfl)
theorem dX7_name_14 : decode cX7_name 14 = .ok (.ifCond .eq 11, 3) := dk_153 0 11 (dk_at dksX7_name_0 14 rfl rfl)
theorem dX7_name_17 : decode cX7_name 17 = .ok (.iload 6, 2) := dk_21 6 (dk_at dksX7_name_0 17 rfl rfl)
theorem dX7_name_19 : decode cX7_name 19 = .ok (.invokestatic 159, 3) := dk_184 0 159 (dk_at dksX7_name_0 19 rfl rfl)
theorem dX7_name_22 : decode cX7_name 22 = .ok (.ifCond .ne 9, 3) := dk_154 0 9 (dk_at dksX7_name_1 0 rfl rfl)
theorem dX7_name_25 : decode cX7_name 25 = .ok (.aload_n 0, 1) := dk_42 (dk_at dksX7_name_1 3 rfl rfl)
theorem dX7_name_26 : decode cX7_name 26 = .ok (.iconst (-1), 1) := dk_2 (dk_at dksX7_name_1 4 rfl rfl)
theorem dX7_name_27 : decode cX7_name 27 = .ok (.invokevirtual 125, 3) := dk_182 0 125 (dk_at dksX7_name_1 5 rfl rfl)
theorem dX7_name_30 : decode cX7_name 30 = .ok (.ireturn, 1) := dk_172 (dk_at dksX7_name_1 8 rfl rfl)
theorem dX7_name_31 : decode cX7_name 31 = .ok (.aload_n 0, 1) := dk_42 (dk_at dksX7_name_1 9 rfl rfl)
theorem dX7_name_32 : decode cX7_name 32 = .ok (.iload_n 1, 1) := dk_27 (dk_at dksX7_name_1 10 rfl rfl)
theorem dX7_name_33 : decode cX7_name 33 = .ok (.invokevirtual 162, 3) := dk_182 0 162 (dk_at dksX7_name_1 11 rfl rfl)
theorem dX7_name_36 : decode cX7_name 36 = .ok (.ifCond .ne 10, 3) := dk_154 0 10 (dk_at dksX7_name_1 14 rfl rfl)
theorem dX7_name_39 : decode cX7_name 39 = .ok (.aload_n 0, 1) := dk_42 (dk_at dksX7_name_1 17 rfl rfl)
theorem dX7_name_40 : decode cX7_name 40 = .ok (.bipush (-2), 2) := dk_16 254 (dk_at dksX7_name_1 18 rfl rfl)
theorem dX7_name_42 : decode cX7_name 42 = .ok (.invokevirtual 125, 3) := dk_182 0 125 (dk_at dksX7_name_1 20 rfl rfl)
theorem dX7_name_45 : decode cX7_name 45 = .ok (.ireturn, 1) := dk_172 (dk_at dksX7_name_1 23 rfl rfl)
theorem dX7_name_46 : decode cX7_name 46 = .ok (.aload_n 0, 1) := dk_42 (dk_at dksX7_name_2 0 rfl rfl)
theorem dX7_name_47 : decode cX7_name 47 = .ok (.getfield 7, 3) := dk_180 0 7 (dk_at dksX7_name_2 1 rfl rfl)
theorem dX7_name_50 : decode cX7_name 50 = .ok (.iconst 1, 1) := dk_4 (dk_at dksX7_name_2 4 rfl rfl)
theorem dX7_name_51 : decode cX7_name 51 = .ok (.iaload, 1) := dk_46 (dk_at dksX7_name_2 5 rfl rfl)
theorem dX7_name_52 : decode cX7_name 52 = .ok (.sipush 200, 3) := dk_17 0 200 (dk_at dksX7_name_2 6 rfl rfl)
theorem dX7_name_55 : decode cX7_name 55 = .ok (.if_icmp .ne 10, 3) := dk_160 0 10 (dk_at dksX7_name_2 9 rfl rfl)
theorem dX7_name_58 : decode cX7_name 58 = .ok (.aload_n 0, 1) := dk_42 (dk_at dksX7_name_2 12 rfl rfl)
theorem dX7_name_59 : decode cX7_name 59 = .ok (.bipush (-5), 2) := dk_16 251 (dk_at dksX7_name_2 13 rfl rfl)
theorem dX7_name_61 : decode cX7_name 61 = .ok (.invokevirtual 125, 3) := dk_182 0 125 (dk_at dksX7_name_2 15 rfl rfl)
theorem dX7_name_64 : decode cX7_name 64 = .ok (.ireturn, 1) := dk_172 (dk_at dksX7_name_2 18 rfl rfl)
theorem dX7_name_65 : decode cX7_name 65 = .ok (.aload_n 0, 1) := dk_42 (dk_at dksX7_name_2 19 rfl rfl)
theorem dX7_name_66 : decode cX7_name 66 = .ok (.iload_n 1, 1) := dk_27 (dk_at dksX7_name_2 20 rfl rfl)
theorem dX7_name_67 : decode cX7_name 67 = .ok (.iload_n 2, 1) := dk_28 (dk_at dksX7_name_2 21 rfl rfl)
theorem dX7_name_68 : decode cX7_name 68 = .ok (.iload_n 3, 1) := dk_29 (dk_at dksX7_name_2 22 rfl rfl)
theorem dX7_name_69 : decode cX7_name 69 = .ok (.iload 4, 2) := dk_21 4 (dk_at dksX7_name_3 0 rfl rfl)
theorem dX7_name_71 : decode cX7_name 71 = .ok (.iload 5, 2) := dk_21 5 (dk_at dksX7_name_3 2 rfl rfl)
theorem dX7_name_73 : decode cX7_name 73 = .ok (.iload 6, 2) := dk_21 6 (dk_at dksX7_name_3 4 rfl rfl)
theorem dX7_name_75 : decode cX7_name 75 = .ok (.invokevirtual 165, 3) := dk_182 0 165 (dk_at dksX7_name_3 6 rfl rfl)
theorem dX7_name_78 : decode cX7_name 78 = .ok (.aload_n 0, 1) := dk_42 (dk_at dksX7_name_3 9 rfl rfl)
theorem dX7_name_79 : decode cX7_name 79 = .ok (.aload_n 0, 1) := dk_42 (dk_at dksX7_name_3 10 rfl rfl)
theorem dX7_name_80 : decode cX7_name 80 = .ok (.getfield 7, 3) := dk_180 0 7 (dk_at dksX7_name_3 11 rfl rfl)
theorem dX7_name_83 : decode cX7_name 83 = .ok (.iconst 1, 1) := dk_4 (dk_at dksX7_name_3 14 rfl rfl)
theorem dX7_name_84 : decode cX7_name 84 = .ok (.iaload, 1) := dk_46 (dk_at dksX7_name_3 15 rfl rfl)
theorem dX7_name_85 : decode cX7_name 85 = .ok (.iconst 1, 1) := dk_4 (dk_at dksX7_name_3 16 rfl rfl)
theorem dX7_name_86 : decode cX7_name 86 = .ok (.isub, 1) := dk_100 (dk_at dksX7_name_3 17 rfl rfl)
theorem dX7_name_87 : decode cX7_name 87 = .ok (.invokevirtual 125, 3) := dk_182 0 125 (dk_at dksX7_name_3 18 rfl rfl)
theorem dX7_name_90 : decode cX7_name 90 = .ok (.ireturn, 1) := dk_172 (dk_at dksX7_name_3 21 rfl rfl)
def dkwX7_isPerson_2 : List UInt8 := [172]
abbrev dktX7_isPerson_2 : List UInt8 := dkwX7_isPerson_2 ++ []
def dkwX7_isPerson_1 : List UInt8 := [28, 133, 9, 20, 0, 142, 184, 0, 121, 153, 0, 14, 29, 184, 0, 144, 153, 0, 7, 4, 167, 0, 4, 3]
abbrev dktX7_isPerson_1 : List UInt8 := dkwX7_isPerson_1 ++ dktX7_isPerson_2
def dkwX7_isPerson_0 : List UInt8 := [26, 133, 9, 20, 0, 131, 184, 0, 121, 153, 0, 38, 27, 133, 9, 20, 0, 140, 184, 0, 121, 153, 0, 26]
abbrev dktX7_isPerson_0 : List UInt8 := dkwX7_isPerson_0 ++ dktX7_isPerson_1
theorem dksX7_isPerson_0 : cX7_isPerson.data.toList.drop 0 = dktX7_isPerson_0 := by decide +kernel
theorem dksX7_isPerson_1 : cX7_isPerson.data.toList.drop 24 = dktX7_isPerson_1 := dk_seg dksX7_isPerson_0 24 rfl rfl
theorem dksX7_isPerson_2 : cX7_isPerson.data.toList.drop 48 = dktX7_isPerson_2 := dk_seg dksX7_isPerson_1 24 rfl rfl
theorem dX7_isPerson_0 : decode cX7_isPerson 0 = .ok (.iload_n 0, 1) := dk_26 (dk_at dksX7_isPerson_0 0 rfl rfl)
theorem dX7_isPerson_1 : decode cX7_isPerson 1 = .ok (.i2l, 1) := dk_133 (dk_at dksX7_isPerson_0 1 rfl rfl)
theorem dX7_isPerson_2 : decode cX7_isPerson 2 = .ok (.lconst 0, 1) := dk_9 (dk_at dksX7_isPerson_0 2 rfl rfl)
theorem dX7_isPerson_3 : decode cX7_isPerson 3 = .ok (.ldc2_w 131, 3) := dk_20 0 131 (dk_at dksX7_isPerson_0 3 rfl rfl)
theorem dX7_isPerson_6 : decode cX7_isPerson 6 = .ok (.invokestatic 121, 3) := dk_184 0 121 (dk_at dksX7_isPerson_0 6 rfl rfl)
theorem dX7_isPerson_9 : decode cX7_isPerson 9 = .ok (.ifCond .eq 38, 3) := dk_153 0 38 (dk_at dksX7_isPerson_0 9 rfl rfl)
theorem dX7_isPerson_12 : decode cX7_isPerson 12 = .ok (.iload_n 1, 1) := dk_27 (dk_at dksX7_isPerson_0 12 rfl rfl)
theorem dX7_isPerson_13 : decode cX7_isPerson 13 = .ok (.i2l, 1) := dk_133 (dk_at dksX7_isPerson_0 13 rfl rfl)
theorem dX7_isPerson_14 : decode cX7_isPerson 14 = .ok (.lconst 0, 1) := dk_9 (dk_at dksX7_isPerson_0 14 rfl rfl)
theorem dX7_isPerson_15 : decode cX7_isPerson 15 = .ok (.ldc2_w 140, 3) := dk_20 0 140 (dk_at dksX7_isPerson_0 15 rfl rfl)
theorem dX7_isPerson_18 : decode cX7_isPerson 18 = .ok (.invokestatic 121, 3) := dk_184 0 121 (dk_at dksX7_isPerson_0 18 rfl rfl)
theorem dX7_isPerson_21 : decode cX7_isPerson 21 = .ok (.ifCond .eq 26, 3) := dk_153 0 26 (dk_at dksX7_isPerson_0 21 rfl rfl)
theorem dX7_isPerson_24 : decode cX7_isPerson 24 = .ok (.iload_n 2, 1) := dk_28 (dk_at dksX7_isPerson_1 0 rfl rfl)
theorem dX7_isPerson_25 : decode cX7_isPerson 25 = .ok (.i2l, 1) := dk_133 (dk_at dksX7_isPerson_1 1 rfl rfl)
theorem dX7_isPerson_26 : decode cX7_isPerson 26 = .ok (.lconst 0, 1) := dk_9 (dk_at dksX7_isPerson_1 2 rfl rfl)
theorem dX7_isPerson_27 : decode cX7_isPerson 27 = .ok (.ldc2_w 142, 3) := dk_20 0 142 (dk_at dksX7_isPerson_1 3 rfl rfl)
theorem dX7_isPerson_30 : decode cX7_isPerson 30 = .ok (.invokestatic 121, 3) := dk_184 0 121 (dk_at dksX7_isPerson_1 6 rfl rfl)
theorem dX7_isPerson_33 : decode cX7_isPerson 33 = .ok (.ifCond .eq 14, 3) := dk_153 0 14 (dk_at dksX7_isPerson_1 9 rfl rfl)
theorem dX7_isPerson_36 : decode cX7_isPerson 36 = .ok (.iload_n 3, 1) := dk_29 (dk_at dksX7_isPerson_1 12 rfl rfl)
theorem dX7_isPerson_37 : decode cX7_isPerson 37 = .ok (.invokestatic 144, 3) := dk_184 0 144 (dk_at dksX7_isPerson_1 13 rfl rfl)
theorem dX7_isPerson_40 : decode cX7_isPerson 40 = .ok (.ifCond .eq 7, 3) := dk_153 0 7 (dk_at dksX7_isPerson_1 16 rfl rfl)
theorem dX7_isPerson_43 : decode cX7_isPerson 43 = .ok (.iconst 1, 1) := dk_4 (dk_at dksX7_isPerson_1 19 rfl rfl)
theorem dX7_isPerson_44 : decode cX7_isPerson 44 = .ok (.goto 4, 3) := dk_167 0 4 (dk_at dksX7_isPerson_1 20 rfl rfl)
theorem dX7_isPerson_47 : decode cX7_isPerson 47 = .ok (.iconst 0, 1) := dk_3 (dk_at dksX7_isPerson_1 23 rfl rfl)
theorem dX7_isPerson_48 : decode cX7_isPerson 48 = .ok (.ireturn, 1) := dk_172 (dk_at dksX7_isPerson_2 0 rfl rfl)
def dkwX7_areLetters_1 : List UInt8 := [20, 0, 138, 184, 0, 121, 153, 0, 7, 4, 167, 0, 4, 3, 60, 132, 2, 248, 167, 255, 219, 27, 172]
abbrev dktX7_areLetters_1 : List UInt8 := dkwX7_areLetters_1 ++ []
def dkwX7_areLetters_0 : List UInt8 := [4, 60, 16, 24, 61, 28, 155, 0, 39, 27, 153, 0, 27, 26, 28, 122, 17, 0, 255, 126, 133, 20, 0, 136]
abbrev dktX7_areLetters_0 : List UInt8 := dkwX7_areLetters_0 ++ dktX7_areLetters_1
theorem dksX7_areLetters_0 : cX7_areLetters.data.toList.drop 0 = dktX7_areLetters_0 := by decide +kernel
theorem dksX7_areLetters_1 : cX7_areLetters.data.toList.drop 24 = dktX7_areLetters_1 := dk_seg dksX7_areLetters_0 24 rfl rfl
theorem dX7_areLetters_0 : decode cX7_areLetters 0 = .ok (.iconst 1, 1) := dk_4 (dk_at dksX7_areLetters_0 0 rfl rfl)
theorem dX7_areLetters_1 : decode cX7_areLetters 1 = .ok (.istore_n 1, 1) := dk_60 (dk_at dksX7_areLetters_0 1 rfl rfl)
theorem dX7_areLetters_2 : decode cX7_areLetters 2 = .ok (.bipush 24, 2) := dk_16 24 (dk_at dksX7_areLetters_0 2 rfl rfl)
theorem dX7_areLetters_4 : decode cX7_areLetters 4 = .ok (.istore_n 2, 1) := dk_61 (dk_at dksX7_areLetters_0 4 rfl rfl)
theorem dX7_areLetters_5 : decode cX7_areLetters 5 = .ok (.iload_n 2, 1) := dk_28 (dk_at dksX7_areLetters_0 5 rfl rfl)
theorem dX7_areLetters_6 : decode cX7_areLetters 6 = .ok (.ifCond .lt 39, 3) := dk_155 0 39 (dk_at dksX7_areLetters_0 6 rfl rfl)
theorem dX7_areLetters_9 : decode cX7_areLetters 9 = .ok (.iload_n 1, 1) := dk_27 (dk_at dksX7_areLetters_0 9 rfl rfl)
theorem dX7_areLetters_10 : decode cX7_areLetters 10 = .ok (.ifCond .eq 27, 3) := dk_153 0 27 (dk_at dksX7_areLetters_0 10 rfl rfl)
theorem dX7_areLetters_13 : decode cX7_areLetters 13 = .ok (.iload_n 0, 1) := dk_26 (dk_at dksX7_areLetters_0 13 rfl rfl)
theorem dX7_areLetters_14 : decode cX7_areLetters 14 = .ok (.iload_n 2, 1) := dk_28 (dk_at dksX7_areLetters_0 14 rfl rfl)
theorem dX7_areLetters_15 : decode cX7_areLetters 15 = .ok (.ishr, 1) := dk_122 (dk_at dksX7_areLetters_0 15 rfl rfl)
theorem dX7_areLetters_16 : decode cX7_areLetters 16 = .ok (.sipush 255, 3) := dk_17 0 255 (dk_at dksX7_areLetters_0 16 rfl rfl)
theorem dX7_areLetters_19 : decode cX7_areLetters 19 = .ok (.iand, 1) := dk_126 (dk_at dksX7_areLetters_0 19 rfl rfl)
theorem dX7_areLetters_20 : decode cX7_areLetters 20 = .ok (.i2l, 1) := dk_133 (dk_at dksX7_areLetters_0 20 rfl rfl)
theorem dX7_areLetters_21 : decode cX7_areLetters 21 = .ok (.ldc2_w 136, 3) := dk_20 0 136 (dk_at dksX7_areLetters_0 21 rfl rfl)
theorem dX7_areLetters_24 : decode cX7_areLetters 24 = .ok (.ldc2_w 138, 3) := dk_20 0 138 (dk_at dksX7_areLetters_1 0 rfl rfl)
theorem dX7_areLetters_27 : decode cX7_areLetters 27 = .ok (.invokestatic 121, 3) := dk_184 0 121 (dk_at dksX7_areLetters_1 3 rfl rfl)
theorem dX7_areLetters_30 : decode cX7_areLetters 30 = .ok (.ifCond .eq 7, 3) := dk_153 0 7 (dk_at dksX7_areLetters_1 6 rfl rfl)
theorem dX7_areLetters_33 : decode cX7_areLetters 33 = .ok (.iconst 1, 1) := dk_4 (dk_at dksX7_areLetters_1 9 rfl rfl)
theorem dX7_areLetters_34 : decode cX7_areLetters 34 = .ok (.goto 4, 3) := dk_167 0 4 (dk_at dksX7_areLetters_1 10 rfl rfl)
theorem dX7_areLetters_37 : decode cX7_areLetters 37 = .ok (.iconst 0, 1) := dk_3 (dk_at dksX7_areLetters_1 13 rfl rfl)
theorem dX7_areLetters_38 : decode cX7_areLetters 38 = .ok (.istore_n 1, 1) := dk_60 (dk_at dksX7_areLetters_1 14 rfl rfl)
theorem dX7_areLetters_39 : decode cX7_areLetters 39 = .ok (.iinc 2 (-8), 3) := dk_132 2 248 (dk_at dksX7_areLetters_1 15 rfl rfl)
theorem dX7_areLetters_42 : decode cX7_areLetters 42 = .ok (.goto (-37), 3) := dk_167 255 219 (dk_at dksX7_areLetters_1 18 rfl rfl)
theorem dX7_areLetters_45 : decode cX7_areLetters 45 = .ok (.iload_n 1, 1) := dk_27 (dk_at dksX7_areLetters_1 21 rfl rfl)
theorem dX7_areLetters_46 : decode cX7_areLetters 46 = .ok (.ireturn, 1) := dk_172 (dk_at dksX7_areLetters_1 22 rfl rfl)
def dkwX7_isDay_0 : List UInt8 := [26, 133, 9, 20, 0, 119, 184, 0, 121, 172]
abbrev dktX7_isDay_0 : List UInt8 := dkwX7_isDay_0 ++ []
theorem dksX7_isDay_0 : cX7_isDay.data.toList.drop 0 = dktX7_isDay_0 := by decide +kernel
theorem dX7_isDay_0 : decode cX7_isDay 0 = .ok (.iload_n 0, 1) := dk_26 (dk_at dksX7_isDay_0 0 rfl rfl)
theorem dX7_isDay_1 : decode cX7_isDay 1 = .ok (.i2l, 1) := dk_133 (dk_at dksX7_isDay_0 1 rfl rfl)
theorem dX7_isDay_2 : decode cX7_isDay 2 = .ok (.lconst 0, 1) := dk_9 (dk_at dksX7_isDay_0 2 rfl rfl)
theorem dX7_isDay_3 : decode cX7_isDay 3 = .ok (.ldc2_w 119, 3) := dk_20 0 119 (dk_at dksX7_isDay_0 3 rfl rfl)
theorem dX7_isDay_6 : decode cX7_isDay 6 = .ok (.invokestatic 121, 3) := dk_184 0 121 (dk_at dksX7_isDay_0 6 rfl rfl)
theorem dX7_isDay_9 : decode cX7_isDay 9 = .ok (.ireturn, 1) := dk_172 (dk_at dksX7_isDay_0 9 rfl rfl)
def dkwX7_isPlace_0 : List UInt8 := [27, 133, 9, 42, 180, 0, 7, 3, 46, 133, 10, 101, 184, 0, 121, 172]
abbrev dktX7_isPlace_0 : List UInt8 := dkwX7_isPlace_0 ++ []
theorem dksX7_isPlace_0 : cX7_isPlace.data.toList.drop 0 = dktX7_isPlace_0 := by decide +kernel
theorem dX7_isPlace_0 : decode cX7_isPlace 0 = .ok (.iload_n 1, 1) := dk_27 (dk_at dksX7_isPlace_0 0 rfl rfl)
theorem dX7_isPlace_1 : decode cX7_isPlace 1 = .ok (.i2l, 1) := dk_133 (dk_at dksX7_isPlace_0 1 rfl rfl)
theorem dX7_isPlace_2 : decode cX7_isPlace 2 = .ok (.lconst 0, 1) := dk_9 (dk_at dksX7_isPlace_0 2 rfl rfl)
theorem dX7_isPlace_3 : decode cX7_isPlace 3 = .ok (.aload_n 0, 1) := dk_42 (dk_at dksX7_isPlace_0 3 rfl rfl)
theorem dX7_isPlace_4 : decode cX7_isPlace 4 = .ok (.getfield 7, 3) := dk_180 0 7 (dk_at dksX7_isPlace_0 4 rfl rfl)
theorem dX7_isPlace_7 : decode cX7_isPlace 7 = .ok (.iconst 0, 1) := dk_3 (dk_at dksX7_isPlace_0 7 rfl rfl)
theorem dX7_isPlace_8 : decode cX7_isPlace 8 = .ok (.iaload, 1) := dk_46 (dk_at dksX7_isPlace_0 8 rfl rfl)
theorem dX7_isPlace_9 : decode cX7_isPlace 9 = .ok (.i2l, 1) := dk_133 (dk_at dksX7_isPlace_0 9 rfl rfl)
theorem dX7_isPlace_10 : decode cX7_isPlace 10 = .ok (.lconst 1, 1) := dk_10 (dk_at dksX7_isPlace_0 10 rfl rfl)
theorem dX7_isPlace_11 : decode cX7_isPlace 11 = .ok (.lsub, 1) := dk_101 (dk_at dksX7_isPlace_0 11 rfl rfl)
theorem dX7_isPlace_12 : decode cX7_isPlace 12 = .ok (.invokestatic 121, 3) := dk_184 0 121 (dk_at dksX7_isPlace_0 12 rfl rfl)
theorem dX7_isPlace_15 : decode cX7_isPlace 15 = .ok (.ireturn, 1) := dk_172 (dk_at dksX7_isPlace_0 15 rfl rfl)
def dkwX7_addName_2 : List UInt8 := [182, 0, 151, 42, 180, 0, 7, 4, 92, 46, 4, 96, 79, 177]
abbrev dktX7_addName_2 : List UInt8 := dkwX7_addName_2 ++ []
def dkwX7_addName_1 : List UInt8 := [21, 7, 7, 96, 21, 5, 21, 6, 2, 2, 182, 0, 151, 42, 21, 7, 16, 7, 96, 2, 2, 2, 2]
abbrev dktX7_addName_1 : List UInt8 := dkwX7_addName_1 ++ dktX7_addName_2
def dkwX7_addName_0 : List UInt8 := [42, 180, 0, 7, 4, 46, 184, 0, 148, 54, 7, 42, 21, 7, 27, 28, 29, 21, 4, 182, 0, 151, 42]
abbrev dktX7_addName_0 : List UInt8 := dkwX7_addName_0 ++ dktX7_addName_1
theorem dksX7_addName_0 : cX7_addName.data.toList.drop 0 = dktX7_addName_0 := by decide +kernel
theorem dksX7_addName_1 : cX7_addName.data.toList.drop 23 = dktX7_addName_1 := dk_seg dksX7_addName_0 23 rfl rfl
theorem dksX7_addName_2 : cX7_addName.data.toList.drop 46 = dktX7_addName_2 := dk_seg dksX7_addName_1 23 rfl rfl
theorem dX7_addName_0 : decode cX7_addName 0 = .ok (.aload_n 0, 1) := dk_42 (dk_at dksX7_addName_0 0 rfl rfl)
theorem dX7_addName_1 : decode cX7_addName 1 = .ok (.getfield 7, 3) := dk_180 0 7 (dk_at dksX7_addName_0 1 rfl rfl)
theorem dX7_addName_4 : decode cX7_addName 4 = .ok (.iconst 1, 1) := dk_4 (dk_at dksX7_addName_0 4 rfl rfl)
theorem dX7_addName_5 : decode cX7_addName 5 = .ok (.iaload, 1) := dk_46 (dk_at dksX7_addName_0 5 rfl rfl)
theorem dX7_addName_6 : decode cX7_addName 6 = .ok (.invokestatic 148, 3) := dk_184 0 148 (dk_at dksX7_addName_0 6 rfl rfl)
theorem dX7_addName_9 : decode cX7_addName 9 = .ok (.istore 7, 2) := dk_54 7 (dk_at dksX7_addName_0 9 rfl rfl)
theorem dX7_addName_11 : decode cX7_addName 11 = .ok (.aload_n 0, 1) := dk_42 (dk_at dksX7_addName_0 11 rfl rfl)
theorem dX7_addName_12 : decode cX7_addName 12 = .ok (.iload 7, 2) := dk_21 7 (dk_at dksX7_addName_0 12 rfl rfl)
theorem dX7_addName_14 : decode cX7_addName 14 = .ok (.iload_n 1, 1) := dk_27 (dk_at dksX7_addName_0 14 rfl rfl)
theorem dX7_addName_15 : decode cX7_addName 15 = .ok (.iload_n 2, 1) := dk_28 (dk_at dksX7_addName_0 15 rfl rfl)
theorem dX7_addName_16 : decode cX7_addName 16 = .ok (.iload_n 3, 1) := dk_29 (dk_at dksX7_addName_0 16 rfl rfl)
theorem dX7_addName_17 : decode cX7_addName 17 = .ok (.iload 4, 2) := dk_21 4 (dk_at dksX7_addName_0 17 rfl rfl)
theorem dX7_addName_19 : decode cX7_addName 19 = .ok (.invokevirtual 151, 3) := dk_182 0 151 (dk_at dksX7_addName_0 19 rfl rfl)
theorem dX7_addName_22 : decode cX7_addName 22 = .ok (.aload_n 0, 1) := dk_42 (dk_at dksX7_addName_0 22 rfl rfl)
theorem dX7_addName_23 : decode cX7_addName 23 = .ok (.iload 7, 2) := dk_21 7 (dk_at dksX7_addName_1 0 rfl rfl)
theorem dX7_addName_25 : decode cX7_addName 25 = .ok (.iconst 4, 1) := dk_7 (dk_at dksX7_addName_1 2 rfl rfl)
theorem dX7_addName_26 : decode cX7_addName 26 = .ok (.iadd, 1) := dk_96 (dk_at dksX7_addName_1 3 rfl rfl)
theorem dX7_addName_27 : decode cX7_addName 27 = .ok (.iload 5, 2) := dk_21 5 (dk_at dksX7_addName_1 4 rfl rfl)
theorem dX7_addName_29 : decode cX7_addName 29 = .ok (.iload 6, 2) := dk_21 6 (dk_at dksX7_addName_1 6 rfl rfl)
theorem dX7_addName_31 : decode cX7_addName 31 = .ok (.iconst (-1), 1) := dk_2 (dk_at dksX7_addName_1 8 rfl rfl)
theorem dX7_addName_32 : decode cX7_addName 32 = .ok (.iconst (-1), 1) := dk_2 (dk_at dksX7_addName_1 9 rfl rfl)
theorem dX7_addName_33 : decode cX7_addName 33 = .ok (.invokevirtual 151, 3) := dk_182 0 151 (dk_at dksX7_addName_1 10 rfl rfl)
theorem dX7_addName_36 : decode cX7_addName 36 = .ok (.aload_n 0, 1) := dk_42 (dk_at dksX7_addName_1 13 rfl rfl)
theorem dX7_addName_37 : decode cX7_addName 37 = .ok (.iload 7, 2) := dk_21 7 (dk_at dksX7_addName_1 14 rfl rfl)
theorem dX7_addName_39 : decode cX7_addName 39 = .ok (.bipush 7, 2) := dk_16 7 (dk_at dksX7_addName_1 16 rfl rfl)
theorem dX7_addName_41 : decode cX7_addName 41 = .ok (.iadd, 1) := dk_96 (dk_at dksX7_addName_1 18 rfl rfl)
theorem dX7_addName_42 : decode cX7_addName 42 = .ok (.iconst (-1), 1) := dk_2 (dk_at dksX7_addName_1 19 rfl rfl)
theorem dX7_addName_43 : decode cX7_addName 43 = .ok (.iconst (-1), 1) := dk_2 (dk_at dksX7_addName_1 20 rfl rfl)
theorem dX7_addName_44 : decode cX7_addName 44 = .ok (.iconst (-1), 1) := dk_2 (dk_at dksX7_addName_1 21 rfl rfl)
theorem dX7_addName_45 : decode cX7_addName 45 = .ok (.iconst (-1), 1) := dk_2 (dk_at dksX7_addName_1 22 rfl rfl)
theorem dX7_addName_46 : decode cX7_addName 46 = .ok (.invokevirtual 151, 3) := dk_182 0 151 (dk_at dksX7_addName_2 0 rfl rfl)
theorem dX7_addName_49 : decode cX7_addName 49 = .ok (.aload_n 0, 1) := dk_42 (dk_at dksX7_addName_2 3 rfl rfl)
theorem dX7_addName_50 : decode cX7_addName 50 = .ok (.getfield 7, 3) := dk_180 0 7 (dk_at dksX7_addName_2 4 rfl rfl)
theorem dX7_addName_53 : decode cX7_addName 53 = .ok (.iconst 1, 1) := dk_4 (dk_at dksX7_addName_2 7 rfl rfl)
theorem dX7_addName_54 : decode cX7_addName 54 = .ok (.dup2, 1) := dk_92 (dk_at dksX7_addName_2 8 rfl rfl)
theorem dX7_addName_55 : decode cX7_addName 55 = .ok (.iaload, 1) := dk_46 (dk_at dksX7_addName_2 9 rfl rfl)
theorem dX7_addName_56 : decode cX7_addName 56 = .ok (.iconst 1, 1) := dk_4 (dk_at dksX7_addName_2 10 rfl rfl)
theorem dX7_addName_57 : decode cX7_addName 57 = .ok (.iadd, 1) := dk_96 (dk_at dksX7_addName_2 11 rfl rfl)
theorem dX7_addName_58 : decode cX7_addName 58 = .ok (.iastore, 1) := dk_79 (dk_at dksX7_addName_2 12 rfl rfl)
theorem dX7_addName_59 : decode cX7_addName 59 = .ok (.return_, 1) := dk_177 (dk_at dksX7_addName_2 13 rfl rfl)
def dkwX7_nameAt_0 : List UInt8 := [16, 68, 16, 11, 26, 104, 96, 172]
abbrev dktX7_nameAt_0 : List UInt8 := dkwX7_nameAt_0 ++ []
theorem dksX7_nameAt_0 : cX7_nameAt.data.toList.drop 0 = dktX7_nameAt_0 := by decide +kernel
theorem dX7_nameAt_0 : decode cX7_nameAt 0 = .ok (.bipush 68, 2) := dk_16 68 (dk_at dksX7_nameAt_0 0 rfl rfl)
theorem dX7_nameAt_2 : decode cX7_nameAt 2 = .ok (.bipush 11, 2) := dk_16 11 (dk_at dksX7_nameAt_0 2 rfl rfl)
theorem dX7_nameAt_4 : decode cX7_nameAt 4 = .ok (.iload_n 0, 1) := dk_26 (dk_at dksX7_nameAt_0 4 rfl rfl)
theorem dX7_nameAt_5 : decode cX7_nameAt 5 = .ok (.imul, 1) := dk_104 (dk_at dksX7_nameAt_0 5 rfl rfl)
theorem dX7_nameAt_6 : decode cX7_nameAt 6 = .ok (.iadd, 1) := dk_96 (dk_at dksX7_nameAt_0 6 rfl rfl)
theorem dX7_nameAt_7 : decode cX7_nameAt 7 = .ok (.ireturn, 1) := dk_172 (dk_at dksX7_nameAt_0 7 rfl rfl)
def dkwX7_addFour_1 : List UInt8 := [21, 4, 79, 42, 180, 0, 7, 27, 6, 96, 21, 5, 79, 177]
abbrev dktX7_addFour_1 : List UInt8 := dkwX7_addFour_1 ++ []
def dkwX7_addFour_0 : List UInt8 := [42, 180, 0, 7, 27, 28, 79, 42, 180, 0, 7, 27, 4, 96, 29, 79, 42, 180, 0, 7, 27, 5, 96]
abbrev dktX7_addFour_0 : List UInt8 := dkwX7_addFour_0 ++ dktX7_addFour_1
theorem dksX7_addFour_0 : cX7_addFour.data.toList.drop 0 = dktX7_addFour_0 := by decide +kernel
theorem dksX7_addFour_1 : cX7_addFour.data.toList.drop 23 = dktX7_addFour_1 := dk_seg dksX7_addFour_0 23 rfl rfl
theorem dX7_addFour_0 : decode cX7_addFour 0 = .ok (.aload_n 0, 1) := dk_42 (dk_at dksX7_addFour_0 0 rfl rfl)
theorem dX7_addFour_1 : decode cX7_addFour 1 = .ok (.getfield 7, 3) := dk_180 0 7 (dk_at dksX7_addFour_0 1 rfl rfl)
theorem dX7_addFour_4 : decode cX7_addFour 4 = .ok (.iload_n 1, 1) := dk_27 (dk_at dksX7_addFour_0 4 rfl rfl)
theorem dX7_addFour_5 : decode cX7_addFour 5 = .ok (.iload_n 2, 1) := dk_28 (dk_at dksX7_addFour_0 5 rfl rfl)
theorem dX7_addFour_6 : decode cX7_addFour 6 = .ok (.iastore, 1) := dk_79 (dk_at dksX7_addFour_0 6 rfl rfl)
theorem dX7_addFour_7 : decode cX7_addFour 7 = .ok (.aload_n 0, 1) := dk_42 (dk_at dksX7_addFour_0 7 rfl rfl)
theorem dX7_addFour_8 : decode cX7_addFour 8 = .ok (.getfield 7, 3) := dk_180 0 7 (dk_at dksX7_addFour_0 8 rfl rfl)
theorem dX7_addFour_11 : decode cX7_addFour 11 = .ok (.iload_n 1, 1) := dk_27 (dk_at dksX7_addFour_0 11 rfl rfl)
theorem dX7_addFour_12 : decode cX7_addFour 12 = .ok (.iconst 1, 1) := dk_4 (dk_at dksX7_addFour_0 12 rfl rfl)
theorem dX7_addFour_13 : decode cX7_addFour 13 = .ok (.iadd, 1) := dk_96 (dk_at dksX7_addFour_0 13 rfl rfl)
theorem dX7_addFour_14 : decode cX7_addFour 14 = .ok (.iload_n 3, 1) := dk_29 (dk_at dksX7_addFour_0 14 rfl rfl)
theorem dX7_addFour_15 : decode cX7_addFour 15 = .ok (.iastore, 1) := dk_79 (dk_at dksX7_addFour_0 15 rfl rfl)
theorem dX7_addFour_16 : decode cX7_addFour 16 = .ok (.aload_n 0, 1) := dk_42 (dk_at dksX7_addFour_0 16 rfl rfl)
theorem dX7_addFour_17 : decode cX7_addFour 17 = .ok (.getfield 7, 3) := dk_180 0 7 (dk_at dksX7_addFour_0 17 rfl rfl)
theorem dX7_addFour_20 : decode cX7_addFour 20 = .ok (.iload_n 1, 1) := dk_27 (dk_at dksX7_addFour_0 20 rfl rfl)
theorem dX7_addFour_21 : decode cX7_addFour 21 = .ok (.iconst 2, 1) := dk_5 (dk_at dksX7_addFour_0 21 rfl rfl)
theorem dX7_addFour_22 : decode cX7_addFour 22 = .ok (.iadd, 1) := dk_96 (dk_at dksX7_addFour_0 22 rfl rfl)
theorem dX7_addFour_23 : decode cX7_addFour 23 = .ok (.iload 4, 2) := dk_21 4 (dk_at dksX7_addFour_1 0 rfl rfl)
theorem dX7_addFour_25 : decode cX7_addFour 25 = .ok (.iastore, 1) := dk_79 (dk_at dksX7_addFour_1 2 rfl rfl)
theorem dX7_addFour_26 : decode cX7_addFour 26 = .ok (.aload_n 0, 1) := dk_42 (dk_at dksX7_addFour_1 3 rfl rfl)
theorem dX7_addFour_27 : decode cX7_addFour 27 = .ok (.getfield 7, 3) := dk_180 0 7 (dk_at dksX7_addFour_1 4 rfl rfl)
theorem dX7_addFour_30 : decode cX7_addFour 30 = .ok (.iload_n 1, 1) := dk_27 (dk_at dksX7_addFour_1 7 rfl rfl)
theorem dX7_addFour_31 : decode cX7_addFour 31 = .ok (.iconst 3, 1) := dk_6 (dk_at dksX7_addFour_1 8 rfl rfl)
theorem dX7_addFour_32 : decode cX7_addFour 32 = .ok (.iadd, 1) := dk_96 (dk_at dksX7_addFour_1 9 rfl rfl)
theorem dX7_addFour_33 : decode cX7_addFour 33 = .ok (.iload 5, 2) := dk_21 5 (dk_at dksX7_addFour_1 10 rfl rfl)
theorem dX7_addFour_35 : decode cX7_addFour 35 = .ok (.iastore, 1) := dk_79 (dk_at dksX7_addFour_1 12 rfl rfl)
theorem dX7_addFour_36 : decode cX7_addFour 36 = .ok (.return_, 1) := dk_177 (dk_at dksX7_addFour_1 13 rfl rfl)
def dkwX7_row_10 : List UInt8 := [21, 6, 28, 182, 0, 165, 132, 4, 1, 132, 5, 1, 167, 255, 94, 42, 21, 4, 182, 0, 125, 172]
abbrev dktX7_row_10 : List UInt8 := dkwX7_row_10 ++ []
def dkwX7_row_9 : List UInt8 := [180, 0, 27, 16, 7, 21, 5, 104, 4, 96, 46, 42, 180, 0, 27, 16, 7, 21, 5, 104, 5, 96, 46]
abbrev dktX7_row_9 : List UInt8 := dkwX7_row_9 ++ dktX7_row_10
def dkwX7_row_8 : List UInt8 := [46, 21, 6, 184, 0, 155, 153, 0, 48, 42, 27, 42, 180, 0, 27, 16, 7, 21, 5, 104, 46, 42]
abbrev dktX7_row_8 : List UInt8 := dkwX7_row_8 ++ dktX7_row_9
def dkwX7_row_7 : List UInt8 := [46, 42, 180, 0, 27, 16, 7, 21, 5, 104, 4, 96, 46, 42, 180, 0, 27, 16, 7, 21, 5, 104, 5, 96]
abbrev dktX7_row_7 : List UInt8 := dkwX7_row_7 ++ dktX7_row_8
def dkwX7_row_6 : List UInt8 := [180, 0, 27, 16, 7, 21, 5, 104, 16, 6, 96, 46, 128, 54, 6, 42, 180, 0, 27, 16, 7, 21, 5, 104]
abbrev dktX7_row_6 : List UInt8 := dkwX7_row_6 ++ dktX7_row_7
def dkwX7_row_5 : List UInt8 := [96, 46, 16, 16, 120, 128, 42, 180, 0, 27, 16, 7, 21, 5, 104, 8, 96, 46, 16, 8, 120, 128, 42]
abbrev dktX7_row_5 : List UInt8 := dkwX7_row_5 ++ dktX7_row_6
def dkwX7_row_4 : List UInt8 := [180, 0, 27, 16, 7, 21, 5, 104, 6, 96, 46, 16, 24, 120, 42, 180, 0, 27, 16, 7, 21, 5, 104, 7]
abbrev dktX7_row_4 : List UInt8 := dkwX7_row_4 ++ dktX7_row_5
def dkwX7_row_3 : List UInt8 := [16, 250, 182, 0, 125, 172, 3, 54, 4, 3, 54, 5, 21, 5, 29, 16, 7, 108, 162, 0, 159, 42]
abbrev dktX7_row_3 : List UInt8 := dkwX7_row_3 ++ dktX7_row_4
def dkwX7_row_2 : List UInt8 := [46, 29, 16, 7, 108, 96, 17, 0, 200, 164, 0, 10, 42, 16, 251, 182, 0, 125, 172, 29, 154, 0, 10, 42]
abbrev dktX7_row_2 : List UInt8 := dkwX7_row_2 ++ dktX7_row_3
def dkwX7_row_1 : List UInt8 := [182, 0, 125, 172, 42, 27, 182, 0, 162, 154, 0, 10, 42, 16, 254, 182, 0, 125, 172, 42, 180, 0, 7, 4]
abbrev dktX7_row_1 : List UInt8 := dkwX7_row_1 ++ dktX7_row_2
def dkwX7_row_0 : List UInt8 := [42, 3, 181, 0, 113, 42, 180, 0, 169, 62, 42, 3, 181, 0, 169, 28, 184, 0, 159, 154, 0, 9, 42, 2]
abbrev dktX7_row_0 : List UInt8 := dkwX7_row_0 ++ dktX7_row_1
theorem dksX7_row_0 : cX7_row.data.toList.drop 0 = dktX7_row_0 := by decide +kernel
theorem dksX7_row_1 : cX7_row.data.toList.drop 24 = dktX7_row_1 := dk_seg dksX7_row_0 24 rfl rfl
theorem dksX7_row_2 : cX7_row.data.toList.drop 48 = dktX7_row_2 := dk_seg dksX7_row_1 24 rfl rfl
theorem dksX7_row_3 : cX7_row.data.toList.drop 72 = dktX7_row_3 := dk_seg dksX7_row_2 24 rfl rfl
theorem dksX7_row_4 : cX7_row.data.toList.drop 94 = dktX7_row_4 := dk_seg dksX7_row_3 22 rfl rfl
theorem dksX7_row_5 : cX7_row.data.toList.drop 118 = dktX7_row_5 := dk_seg dksX7_row_4 24 rfl rfl
theorem dksX7_row_6 : cX7_row.data.toList.drop 141 = dktX7_row_6 := dk_seg dksX7_row_5 23 rfl rfl
theorem dksX7_row_7 : cX7_row.data.toList.drop 165 = dktX7_row_7 := dk_seg dksX7_row_6 24 rfl rfl
theorem dksX7_row_8 : cX7_row.data.toList.drop 189 = dktX7_row_8 := dk_seg dksX7_row_7 24 rfl rfl
theorem dksX7_row_9 : cX7_row.data.toList.drop 211 = dktX7_row_9 := dk_seg dksX7_row_8 22 rfl rfl
theorem dksX7_row_10 : cX7_row.data.toList.drop 234 = dktX7_row_10 := dk_seg dksX7_row_9 23 rfl rfl
theorem dX7_row_0 : decode cX7_row 0 = .ok (.aload_n 0, 1) := dk_42 (dk_at dksX7_row_0 0 rfl rfl)
theorem dX7_row_1 : decode cX7_row 1 = .ok (.iconst 0, 1) := dk_3 (dk_at dksX7_row_0 1 rfl rfl)
theorem dX7_row_2 : decode cX7_row 2 = .ok (.putfield 113, 3) := dk_181 0 113 (dk_at dksX7_row_0 2 rfl rfl)
theorem dX7_row_5 : decode cX7_row 5 = .ok (.aload_n 0, 1) := dk_42 (dk_at dksX7_row_0 5 rfl rfl)
theorem dX7_row_6 : decode cX7_row 6 = .ok (.getfield 169, 3) := dk_180 0 169 (dk_at dksX7_row_0 6 rfl rfl)
theorem dX7_row_9 : decode cX7_row 9 = .ok (.istore_n 3, 1) := dk_62 (dk_at dksX7_row_0 9 rfl rfl)
theorem dX7_row_10 : decode cX7_row 10 = .ok (.aload_n 0, 1) := dk_42 (dk_at dksX7_row_0 10 rfl rfl)
theorem dX7_row_11 : decode cX7_row 11 = .ok (.iconst 0, 1) := dk_3 (dk_at dksX7_row_0 11 rfl rfl)
theorem dX7_row_12 : decode cX7_row 12 = .ok (.putfield 169, 3) := dk_181 0 169 (dk_at dksX7_row_0 12 rfl rfl)
theorem dX7_row_15 : decode cX7_row 15 = .ok (.iload_n 2, 1) := dk_28 (dk_at dksX7_row_0 15 rfl rfl)
theorem dX7_row_16 : decode cX7_row 16 = .ok (.invokestatic 159, 3) := dk_184 0 159 (dk_at dksX7_row_0 16 rfl rfl)
theorem dX7_row_19 : decode cX7_row 19 = .ok (.ifCond .ne 9, 3) := dk_154 0 9 (dk_at dksX7_row_0 19 rfl rfl)
theorem dX7_row_22 : decode cX7_row 22 = .ok (.aload_n 0, 1) := dk_42 (dk_at dksX7_row_0 22 rfl rfl)
theorem dX7_row_23 : decode cX7_row 23 = .ok (.iconst (-1), 1) := dk_2 (dk_at dksX7_row_0 23 rfl rfl)
theorem dX7_row_24 : decode cX7_row 24 = .ok (.invokevirtual 125, 3) := dk_182 0 125 (dk_at dksX7_row_1 0 rfl rfl)
theorem dX7_row_27 : decode cX7_row 27 = .ok (.ireturn, 1) := dk_172 (dk_at dksX7_row_1 3 rfl rfl)
theorem dX7_row_28 : decode cX7_row 28 = .ok (.aload_n 0, 1) := dk_42 (dk_at dksX7_row_1 4 rfl rfl)
theorem dX7_row_29 : decode cX7_row 29 = .ok (.iload_n 1, 1) := dk_27 (dk_at dksX7_row_1 5 rfl rfl)
theorem dX7_row_30 : decode cX7_row 30 = .ok (.invokevirtual 162, 3) := dk_182 0 162 (dk_at dksX7_row_1 6 rfl rfl)
theorem dX7_row_33 : decode cX7_row 33 = .ok (.ifCond .ne 10, 3) := dk_154 0 10 (dk_at dksX7_row_1 9 rfl rfl)
theorem dX7_row_36 : decode cX7_row 36 = .ok (.aload_n 0, 1) := dk_42 (dk_at dksX7_row_1 12 rfl rfl)
theorem dX7_row_37 : decode cX7_row 37 = .ok (.bipush (-2), 2) := dk_16 254 (dk_at dksX7_row_1 13 rfl rfl)
theorem dX7_row_39 : decode cX7_row 39 = .ok (.invokevirtual 125, 3) := dk_182 0 125 (dk_at dksX7_row_1 15 rfl rfl)
theorem dX7_row_42 : decode cX7_row 42 = .ok (.ireturn, 1) := dk_172 (dk_at dksX7_row_1 18 rfl rfl)
theorem dX7_row_43 : decode cX7_row 43 = .ok (.aload_n 0, 1) := dk_42 (dk_at dksX7_row_1 19 rfl rfl)
theorem dX7_row_44 : decode cX7_row 44 = .ok (.getfield 7, 3) := dk_180 0 7 (dk_at dksX7_row_1 20 rfl rfl)
theorem dX7_row_47 : decode cX7_row 47 = .ok (.iconst 1, 1) := dk_4 (dk_at dksX7_row_1 23 rfl rfl)
theorem dX7_row_48 : decode cX7_row 48 = .ok (.iaload, 1) := dk_46 (dk_at dksX7_row_2 0 rfl rfl)
theorem dX7_row_49 : decode cX7_row 49 = .ok (.iload_n 3, 1) := dk_29 (dk_at dksX7_row_2 1 rfl rfl)
theorem dX7_row_50 : decode cX7_row 50 = .ok (.bipush 7, 2) := dk_16 7 (dk_at dksX7_row_2 2 rfl rfl)
theorem dX7_row_52 : decode cX7_row 52 = .ok (.idiv, 1) := dk_108 (dk_at dksX7_row_2 4 rfl rfl)
theorem dX7_row_53 : decode cX7_row 53 = .ok (.iadd, 1) := dk_96 (dk_at dksX7_row_2 5 rfl rfl)
theorem dX7_row_54 : decode cX7_row 54 = .ok (.sipush 200, 3) := dk_17 0 200 (dk_at dksX7_row_2 6 rfl rfl)
theorem dX7_row_57 : decode cX7_row 57 = .ok (.if_icmp .le 10, 3) := dk_164 0 10 (dk_at dksX7_row_2 9 rfl rfl)
theorem dX7_row_60 : decode cX7_row 60 = .ok (.aload_n 0, 1) := dk_42 (dk_at dksX7_row_2 12 rfl rfl)
theorem dX7_row_61 : decode cX7_row 61 = .ok (.bipush (-5), 2) := dk_16 251 (dk_at dksX7_row_2 13 rfl rfl)
theorem dX7_row_63 : decode cX7_row 63 = .ok (.invokevirtual 125, 3) := dk_182 0 125 (dk_at dksX7_row_2 15 rfl rfl)
theorem dX7_row_66 : decode cX7_row 66 = .ok (.ireturn, 1) := dk_172 (dk_at dksX7_row_2 18 rfl rfl)
theorem dX7_row_67 : decode cX7_row 67 = .ok (.iload_n 3, 1) := dk_29 (dk_at dksX7_row_2 19 rfl rfl)
theorem dX7_row_68 : decode cX7_row 68 = .ok (.ifCond .ne 10, 3) := dk_154 0 10 (dk_at dksX7_row_2 20 rfl rfl)
theorem dX7_row_71 : decode cX7_row 71 = .ok (.aload_n 0, 1) := dk_42 (dk_at dksX7_row_2 23 rfl rfl)
theorem dX7_row_72 : decode cX7_row 72 = .ok (.bipush (-6), 2) := dk_16 250 (dk_at dksX7_row_3 0 rfl rfl)
theorem dX7_row_74 : decode cX7_row 74 = .ok (.invokevirtual 125, 3) := dk_182 0 125 (dk_at dksX7_row_3 2 rfl rfl)
theorem dX7_row_77 : decode cX7_row 77 = .ok (.ireturn, 1) := dk_172 (dk_at dksX7_row_3 5 rfl rfl)
theorem dX7_row_78 : decode cX7_row 78 = .ok (.iconst 0, 1) := dk_3 (dk_at dksX7_row_3 6 rfl rfl)
theorem dX7_row_79 : decode cX7_row 79 = .ok (.istore 4, 2) := dk_54 4 (dk_at dksX7_row_3 7 rfl rfl)
theorem dX7_row_81 : decode cX7_row 81 = .ok (.iconst 0, 1) := dk_3 (dk_at dksX7_row_3 9 rfl rfl)
theorem dX7_row_82 : decode cX7_row 82 = .ok (.istore 5, 2) := dk_54 5 (dk_at dksX7_row_3 10 rfl rfl)
theorem dX7_row_84 : decode cX7_row 84 = .ok (.iload 5, 2) := dk_21 5 (dk_at dksX7_row_3 12 rfl rfl)
theorem dX7_row_86 : decode cX7_row 86 = .ok (.iload_n 3, 1) := dk_29 (dk_at dksX7_row_3 14 rfl rfl)
theorem dX7_row_87 : decode cX7_row 87 = .ok (.bipush 7, 2) := dk_16 7 (dk_at dksX7_row_3 15 rfl rfl)
theorem dX7_row_89 : decode cX7_row 89 = .ok (.idiv, 1) := dk_108 (dk_at dksX7_row_3 17 rfl rfl)
theorem dX7_row_90 : decode cX7_row 90 = .ok (.if_icmp .ge 159, 3) := dk_162 0 159 (dk_at dksX7_row_3 18 rfl rfl)
theorem dX7_row_93 : decode cX7_row 93 = .ok (.aload_n 0, 1) := dk_42 (dk_at dksX7_row_3 21 rfl rfl)
theorem dX7_row_94 : decode cX7_row 94 = .ok (.getfield 27, 3) := dk_180 0 27 (dk_at dksX7_row_4 0 rfl rfl)
theorem dX7_row_97 : decode cX7_row 97 = .ok (.bipush 7, 2) := dk_16 7 (dk_at dksX7_row_4 3 rfl rfl)
theorem dX7_row_99 : decode cX7_row 99 = .ok (.iload 5, 2) := dk_21 5 (dk_at dksX7_row_4 5 rfl rfl)
theorem dX7_row_101 : decode cX7_row 101 = .ok (.imul, 1) := dk_104 (dk_at dksX7_row_4 7 rfl rfl)
theorem dX7_row_102 : decode cX7_row 102 = .ok (.iconst 3, 1) := dk_6 (dk_at dksX7_row_4 8 rfl rfl)
theorem dX7_row_103 : decode cX7_row 103 = .ok (.iadd, 1) := dk_96 (dk_at dksX7_row_4 9 rfl rfl)
theorem dX7_row_104 : decode cX7_row 104 = .ok (.iaload, 1) := dk_46 (dk_at dksX7_row_4 10 rfl rfl)
theorem dX7_row_105 : decode cX7_row 105 = .ok (.bipush 24, 2) := dk_16 24 (dk_at dksX7_row_4 11 rfl rfl)
theorem dX7_row_107 : decode cX7_row 107 = .ok (.ishl, 1) := dk_120 (dk_at dksX7_row_4 13 rfl rfl)
theorem dX7_row_108 : decode cX7_row 108 = .ok (.aload_n 0, 1) := dk_42 (dk_at dksX7_row_4 14 rfl rfl)
theorem dX7_row_109 : decode cX7_row 109 = .ok (.getfield 27, 3) := dk_180 0 27 (dk_at dksX7_row_4 15 rfl rfl)
theorem dX7_row_112 : decode cX7_row 112 = .ok (.bipush 7, 2) := dk_16 7 (dk_at dksX7_row_4 18 rfl rfl)
theorem dX7_row_114 : decode cX7_row 114 = .ok (.iload 5, 2) := dk_21 5 (dk_at dksX7_row_4 20 rfl rfl)
theorem dX7_row_116 : decode cX7_row 116 = .ok (.imul, 1) := dk_104 (dk_at dksX7_row_4 22 rfl rfl)
theorem dX7_row_117 : decode cX7_row 117 = .ok (.iconst 4, 1) := dk_7 (dk_at dksX7_row_4 23 rfl rfl)
theorem dX7_row_118 : decode cX7_row 118 = .ok (.iadd, 1) := dk_96 (dk_at dksX7_row_5 0 rfl rfl)
theorem dX7_row_119 : decode cX7_row 119 = .ok (.iaload, 1) := dk_46 (dk_at dksX7_row_5 1 rfl rfl)
theorem dX7_row_120 : decode cX7_row 120 = .ok (.bipush 16, 2) := dk_16 16 (dk_at dksX7_row_5 2 rfl rfl)
theorem dX7_row_122 : decode cX7_row 122 = .ok (.ishl, 1) := dk_120 (dk_at dksX7_row_5 4 rfl rfl)
theorem dX7_row_123 : decode cX7_row 123 = .ok (.ior, 1) := dk_128 (dk_at dksX7_row_5 5 rfl rfl)
theorem dX7_row_124 : decode cX7_row 124 = .ok (.aload_n 0, 1) := dk_42 (dk_at dksX7_row_5 6 rfl rfl)
theorem dX7_row_125 : decode cX7_row 125 = .ok (.getfield 27, 3) := dk_180 0 27 (dk_at dksX7_row_5 7 rfl rfl)
theorem dX7_row_128 : decode cX7_row 128 = .ok (.bipush 7, 2) := dk_16 7 (dk_at dksX7_row_5 10 rfl rfl)
theorem dX7_row_130 : decode cX7_row 130 = .ok (.iload 5, 2) := dk_21 5 (dk_at dksX7_row_5 12 rfl rfl)
theorem dX7_row_132 : decode cX7_row 132 = .ok (.imul, 1) := dk_104 (dk_at dksX7_row_5 14 rfl rfl)
theorem dX7_row_133 : decode cX7_row 133 = .ok (.iconst 5, 1) := dk_8 (dk_at dksX7_row_5 15 rfl rfl)
theorem dX7_row_134 : decode cX7_row 134 = .ok (.iadd, 1) := dk_96 (dk_at dksX7_row_5 16 rfl rfl)
theorem dX7_row_135 : decode cX7_row 135 = .ok (.iaload, 1) := dk_46 (dk_at dksX7_row_5 17 rfl rfl)
theorem dX7_row_136 : decode cX7_row 136 = .ok (.bipush 8, 2) := dk_16 8 (dk_at dksX7_row_5 18 rfl rfl)
theorem dX7_row_138 : decode cX7_row 138 = .ok (.ishl, 1) := dk_120 (dk_at dksX7_row_5 20 rfl rfl)
theorem dX7_row_139 : decode cX7_row 139 = .ok (.ior, 1) := dk_128 (dk_at dksX7_row_5 21 rfl rfl)
theorem dX7_row_140 : decode cX7_row 140 = .ok (.aload_n 0, 1) := dk_42 (dk_at dksX7_row_5 22 rfl rfl)
theorem dX7_row_141 : decode cX7_row 141 = .ok (.getfield 27, 3) := dk_180 0 27 (dk_at dksX7_row_6 0 rfl rfl)
theorem dX7_row_144 : decode cX7_row 144 = .ok (.bipush 7, 2) := dk_16 7 (dk_at dksX7_row_6 3 rfl rfl)
theorem dX7_row_146 : decode cX7_row 146 = .ok (.iload 5, 2) := dk_21 5 (dk_at dksX7_row_6 5 rfl rfl)
theorem dX7_row_148 : decode cX7_row 148 = .ok (.imul, 1) := dk_104 (dk_at dksX7_row_6 7 rfl rfl)
theorem dX7_row_149 : decode cX7_row 149 = .ok (.bipush 6, 2) := dk_16 6 (dk_at dksX7_row_6 8 rfl rfl)
theorem dX7_row_151 : decode cX7_row 151 = .ok (.iadd, 1) := dk_96 (dk_at dksX7_row_6 10 rfl rfl)
theorem dX7_row_152 : decode cX7_row 152 = .ok (.iaload, 1) := dk_46 (dk_at dksX7_row_6 11 rfl rfl)
theorem dX7_row_153 : decode cX7_row 153 = .ok (.ior, 1) := dk_128 (dk_at dksX7_row_6 12 rfl rfl)
theorem dX7_row_154 : decode cX7_row 154 = .ok (.istore 6, 2) := dk_54 6 (dk_at dksX7_row_6 13 rfl rfl)
theorem dX7_row_156 : decode cX7_row 156 = .ok (.aload_n 0, 1) := dk_42 (dk_at dksX7_row_6 15 rfl rfl)
theorem dX7_row_157 : decode cX7_row 157 = .ok (.getfield 27, 3) := dk_180 0 27 (dk_at dksX7_row_6 16 rfl rfl)
theorem dX7_row_160 : decode cX7_row 160 = .ok (.bipush 7, 2) := dk_16 7 (dk_at dksX7_row_6 19 rfl rfl)
theorem dX7_row_162 : decode cX7_row 162 = .ok (.iload 5, 2) := dk_21 5 (dk_at dksX7_row_6 21 rfl rfl)
theorem dX7_row_164 : decode cX7_row 164 = .ok (.imul, 1) := dk_104 (dk_at dksX7_row_6 23 rfl rfl)
theorem dX7_row_165 : decode cX7_row 165 = .ok (.iaload, 1) := dk_46 (dk_at dksX7_row_7 0 rfl rfl)
theorem dX7_row_166 : decode cX7_row 166 = .ok (.aload_n 0, 1) := dk_42 (dk_at dksX7_row_7 1 rfl rfl)
theorem dX7_row_167 : decode cX7_row 167 = .ok (.getfield 27, 3) := dk_180 0 27 (dk_at dksX7_row_7 2 rfl rfl)
theorem dX7_row_170 : decode cX7_row 170 = .ok (.bipush 7, 2) := dk_16 7 (dk_at dksX7_row_7 5 rfl rfl)
theorem dX7_row_172 : decode cX7_row 172 = .ok (.iload 5, 2) := dk_21 5 (dk_at dksX7_row_7 7 rfl rfl)
theorem dX7_row_174 : decode cX7_row 174 = .ok (.imul, 1) := dk_104 (dk_at dksX7_row_7 9 rfl rfl)
theorem dX7_row_175 : decode cX7_row 175 = .ok (.iconst 1, 1) := dk_4 (dk_at dksX7_row_7 10 rfl rfl)
theorem dX7_row_176 : decode cX7_row 176 = .ok (.iadd, 1) := dk_96 (dk_at dksX7_row_7 11 rfl rfl)
theorem dX7_row_177 : decode cX7_row 177 = .ok (.iaload, 1) := dk_46 (dk_at dksX7_row_7 12 rfl rfl)
theorem dX7_row_178 : decode cX7_row 178 = .ok (.aload_n 0, 1) := dk_42 (dk_at dksX7_row_7 13 rfl rfl)
theorem dX7_row_179 : decode cX7_row 179 = .ok (.getfield 27, 3) := dk_180 0 27 (dk_at dksX7_row_7 14 rfl rfl)
theorem dX7_row_182 : decode cX7_row 182 = .ok (.bipush 7, 2) := dk_16 7 (dk_at dksX7_row_7 17 rfl rfl)
theorem dX7_row_184 : decode cX7_row 184 = .ok (.iload 5, 2) := dk_21 5 (dk_at dksX7_row_7 19 rfl rfl)
theorem dX7_row_186 : decode cX7_row 186 = .ok (.imul, 1) := dk_104 (dk_at dksX7_row_7 21 rfl rfl)
theorem dX7_row_187 : decode cX7_row 187 = .ok (.iconst 2, 1) := dk_5 (dk_at dksX7_row_7 22 rfl rfl)
theorem dX7_row_188 : decode cX7_row 188 = .ok (.iadd, 1) := dk_96 (dk_at dksX7_row_7 23 rfl rfl)
theorem dX7_row_189 : decode cX7_row 189 = .ok (.iaload, 1) := dk_46 (dk_at dksX7_row_8 0 rfl rfl)
theorem dX7_row_190 : decode cX7_row 190 = .ok (.iload 6, 2) := dk_21 6 (dk_at dksX7_row_8 1 rfl rfl)
theorem dX7_row_192 : decode cX7_row 192 = .ok (.invokestatic 155, 3) := dk_184 0 155 (dk_at dksX7_row_8 3 rfl rfl)
theorem dX7_row_195 : decode cX7_row 195 = .ok (.ifCond .eq 48, 3) := dk_153 0 48 (dk_at dksX7_row_8 6 rfl rfl)
theorem dX7_row_198 : decode cX7_row 198 = .ok (.aload_n 0, 1) := dk_42 (dk_at dksX7_row_8 9 rfl rfl)
theorem dX7_row_199 : decode cX7_row 199 = .ok (.iload_n 1, 1) := dk_27 (dk_at dksX7_row_8 10 rfl rfl)
theorem dX7_row_200 : decode cX7_row 200 = .ok (.aload_n 0, 1) := dk_42 (dk_at dksX7_row_8 11 rfl rfl)
theorem dX7_row_201 : decode cX7_row 201 = .ok (.getfield 27, 3) := dk_180 0 27 (dk_at dksX7_row_8 12 rfl rfl)
theorem dX7_row_204 : decode cX7_row 204 = .ok (.bipush 7, 2) := dk_16 7 (dk_at dksX7_row_8 15 rfl rfl)
theorem dX7_row_206 : decode cX7_row 206 = .ok (.iload 5, 2) := dk_21 5 (dk_at dksX7_row_8 17 rfl rfl)
theorem dX7_row_208 : decode cX7_row 208 = .ok (.imul, 1) := dk_104 (dk_at dksX7_row_8 19 rfl rfl)
theorem dX7_row_209 : decode cX7_row 209 = .ok (.iaload, 1) := dk_46 (dk_at dksX7_row_8 20 rfl rfl)
theorem dX7_row_210 : decode cX7_row 210 = .ok (.aload_n 0, 1) := dk_42 (dk_at dksX7_row_8 21 rfl rfl)
theorem dX7_row_211 : decode cX7_row 211 = .ok (.getfield 27, 3) := dk_180 0 27 (dk_at dksX7_row_9 0 rfl rfl)
theorem dX7_row_214 : decode cX7_row 214 = .ok (.bipush 7, 2) := dk_16 7 (dk_at dksX7_row_9 3 rfl rfl)
theorem dX7_row_216 : decode cX7_row 216 = .ok (.iload 5, 2) := dk_21 5 (dk_at dksX7_row_9 5 rfl rfl)
theorem dX7_row_218 : decode cX7_row 218 = .ok (.imul, 1) := dk_104 (dk_at dksX7_row_9 7 rfl rfl)
theorem dX7_row_219 : decode cX7_row 219 = .ok (.iconst 1, 1) := dk_4 (dk_at dksX7_row_9 8 rfl rfl)
theorem dX7_row_220 : decode cX7_row 220 = .ok (.iadd, 1) := dk_96 (dk_at dksX7_row_9 9 rfl rfl)
theorem dX7_row_221 : decode cX7_row 221 = .ok (.iaload, 1) := dk_46 (dk_at dksX7_row_9 10 rfl rfl)
theorem dX7_row_222 : decode cX7_row 222 = .ok (.aload_n 0, 1) := dk_42 (dk_at dksX7_row_9 11 rfl rfl)
theorem dX7_row_223 : decode cX7_row 223 = .ok (.getfield 27, 3) := dk_180 0 27 (dk_at dksX7_row_9 12 rfl rfl)
theorem dX7_row_226 : decode cX7_row 226 = .ok (.bipush 7, 2) := dk_16 7 (dk_at dksX7_row_9 15 rfl rfl)
theorem dX7_row_228 : decode cX7_row 228 = .ok (.iload 5, 2) := dk_21 5 (dk_at dksX7_row_9 17 rfl rfl)
theorem dX7_row_230 : decode cX7_row 230 = .ok (.imul, 1) := dk_104 (dk_at dksX7_row_9 19 rfl rfl)
theorem dX7_row_231 : decode cX7_row 231 = .ok (.iconst 2, 1) := dk_5 (dk_at dksX7_row_9 20 rfl rfl)
theorem dX7_row_232 : decode cX7_row 232 = .ok (.iadd, 1) := dk_96 (dk_at dksX7_row_9 21 rfl rfl)
theorem dX7_row_233 : decode cX7_row 233 = .ok (.iaload, 1) := dk_46 (dk_at dksX7_row_9 22 rfl rfl)
theorem dX7_row_234 : decode cX7_row 234 = .ok (.iload 6, 2) := dk_21 6 (dk_at dksX7_row_10 0 rfl rfl)
theorem dX7_row_236 : decode cX7_row 236 = .ok (.iload_n 2, 1) := dk_28 (dk_at dksX7_row_10 2 rfl rfl)
theorem dX7_row_237 : decode cX7_row 237 = .ok (.invokevirtual 165, 3) := dk_182 0 165 (dk_at dksX7_row_10 3 rfl rfl)
theorem dX7_row_240 : decode cX7_row 240 = .ok (.iinc 4 1, 3) := dk_132 4 1 (dk_at dksX7_row_10 6 rfl rfl)
theorem dX7_row_243 : decode cX7_row 243 = .ok (.iinc 5 1, 3) := dk_132 5 1 (dk_at dksX7_row_10 9 rfl rfl)
theorem dX7_row_246 : decode cX7_row 246 = .ok (.goto (-162), 3) := dk_167 255 94 (dk_at dksX7_row_10 12 rfl rfl)
theorem dX7_row_249 : decode cX7_row 249 = .ok (.aload_n 0, 1) := dk_42 (dk_at dksX7_row_10 15 rfl rfl)
theorem dX7_row_250 : decode cX7_row 250 = .ok (.iload 4, 2) := dk_21 4 (dk_at dksX7_row_10 16 rfl rfl)
theorem dX7_row_252 : decode cX7_row 252 = .ok (.invokevirtual 125, 3) := dk_182 0 125 (dk_at dksX7_row_10 18 rfl rfl)
theorem dX7_row_255 : decode cX7_row 255 = .ok (.ireturn, 1) := dk_172 (dk_at dksX7_row_10 21 rfl rfl)
def dkwX7_off_3 : List UInt8 := [21, 4, 28, 79, 42, 180, 0, 7, 21, 4, 4, 96, 29, 79, 42, 3, 182, 0, 125, 172]
abbrev dktX7_off_3 : List UInt8 := dkwX7_off_3 ++ []
def dkwX7_off_2 : List UInt8 := [54, 4, 42, 180, 0, 7, 21, 4, 46, 2, 159, 0, 10, 42, 16, 252, 182, 0, 125, 172, 42, 180, 0, 7]
abbrev dktX7_off_2 : List UInt8 := dkwX7_off_2 ++ dktX7_off_3
def dkwX7_off_1 : List UInt8 := [172, 42, 27, 182, 0, 172, 154, 0, 10, 42, 16, 254, 182, 0, 125, 172, 27, 184, 0, 148, 16, 6, 96]
abbrev dktX7_off_1 : List UInt8 := dkwX7_off_1 ++ dktX7_off_2
def dkwX7_off_0 : List UInt8 := [42, 3, 181, 0, 113, 28, 184, 0, 159, 153, 0, 10, 29, 184, 0, 159, 154, 0, 9, 42, 2, 182, 0, 125]
abbrev dktX7_off_0 : List UInt8 := dkwX7_off_0 ++ dktX7_off_1
theorem dksX7_off_0 : cX7_off.data.toList.drop 0 = dktX7_off_0 := by decide +kernel
theorem dksX7_off_1 : cX7_off.data.toList.drop 24 = dktX7_off_1 := dk_seg dksX7_off_0 24 rfl rfl
theorem dksX7_off_2 : cX7_off.data.toList.drop 47 = dktX7_off_2 := dk_seg dksX7_off_1 23 rfl rfl
theorem dksX7_off_3 : cX7_off.data.toList.drop 71 = dktX7_off_3 := dk_seg dksX7_off_2 24 rfl rfl
theorem dX7_off_0 : decode cX7_off 0 = .ok (.aload_n 0, 1) := dk_42 (dk_at dksX7_off_0 0 rfl rfl)
theorem dX7_off_1 : decode cX7_off 1 = .ok (.iconst 0, 1) := dk_3 (dk_at dksX7_off_0 1 rfl rfl)
theorem dX7_off_2 : decode cX7_off 2 = .ok (.putfield 113, 3) := dk_181 0 113 (dk_at dksX7_off_0 2 rfl rfl)
theorem dX7_off_5 : decode cX7_off 5 = .ok (.iload_n 2, 1) := dk_28 (dk_at dksX7_off_0 5 rfl rfl)
theorem dX7_off_6 : decode cX7_off 6 = .ok (.invokestatic 159, 3) := dk_184 0 159 (dk_at dksX7_off_0 6 rfl rfl)
theorem dX7_off_9 : decode cX7_off 9 = .ok (.ifCond .eq 10, 3) := dk_153 0 10 (dk_at dksX7_off_0 9 rfl rfl)
theorem dX7_off_12 : decode cX7_off 12 = .ok (.iload_n 3, 1) := dk_29 (dk_at dksX7_off_0 12 rfl rfl)
theorem dX7_off_13 : decode cX7_off 13 = .ok (.invokestatic 159, 3) := dk_184 0 159 (dk_at dksX7_off_0 13 rfl rfl)
theorem dX7_off_16 : decode cX7_off 16 = .ok (.ifCond .ne 9, 3) := dk_154 0 9 (dk_at dksX7_off_0 16 rfl rfl)
theorem dX7_off_19 : decode cX7_off 19 = .ok (.aload_n 0, 1) := dk_42 (dk_at dksX7_off_0 19 rfl rfl)
theorem dX7_off_20 : decode cX7_off 20 = .ok (.iconst (-1), 1) := dk_2 (dk_at dksX7_off_0 20 rfl rfl)
theorem dX7_off_21 : decode cX7_off 21 = .ok (.invokevirtual 125, 3) := dk_182 0 125 (dk_at dksX7_off_0 21 rfl rfl)
theorem dX7_off_24 : decode cX7_off 24 = .ok (.ireturn, 1) := dk_172 (dk_at dksX7_off_1 0 rfl rfl)
theorem dX7_off_25 : decode cX7_off 25 = .ok (.aload_n 0, 1) := dk_42 (dk_at dksX7_off_1 1 rfl rfl)
theorem dX7_off_26 : decode cX7_off 26 = .ok (.iload_n 1, 1) := dk_27 (dk_at dksX7_off_1 2 rfl rfl)
theorem dX7_off_27 : decode cX7_off 27 = .ok (.invokevirtual 172, 3) := dk_182 0 172 (dk_at dksX7_off_1 3 rfl rfl)
theorem dX7_off_30 : decode cX7_off 30 = .ok (.ifCond .ne 10, 3) := dk_154 0 10 (dk_at dksX7_off_1 6 rfl rfl)
theorem dX7_off_33 : decode cX7_off 33 = .ok (.aload_n 0, 1) := dk_42 (dk_at dksX7_off_1 9 rfl rfl)
theorem dX7_off_34 : decode cX7_off 34 = .ok (.bipush (-2), 2) := dk_16 254 (dk_at dksX7_off_1 10 rfl rfl)
theorem dX7_off_36 : decode cX7_off 36 = .ok (.invokevirtual 125, 3) := dk_182 0 125 (dk_at dksX7_off_1 12 rfl rfl)
theorem dX7_off_39 : decode cX7_off 39 = .ok (.ireturn, 1) := dk_172 (dk_at dksX7_off_1 15 rfl rfl)
theorem dX7_off_40 : decode cX7_off 40 = .ok (.iload_n 1, 1) := dk_27 (dk_at dksX7_off_1 16 rfl rfl)
theorem dX7_off_41 : decode cX7_off 41 = .ok (.invokestatic 148, 3) := dk_184 0 148 (dk_at dksX7_off_1 17 rfl rfl)
theorem dX7_off_44 : decode cX7_off 44 = .ok (.bipush 6, 2) := dk_16 6 (dk_at dksX7_off_1 20 rfl rfl)
theorem dX7_off_46 : decode cX7_off 46 = .ok (.iadd, 1) := dk_96 (dk_at dksX7_off_1 22 rfl rfl)
theorem dX7_off_47 : decode cX7_off 47 = .ok (.istore 4, 2) := dk_54 4 (dk_at dksX7_off_2 0 rfl rfl)
theorem dX7_off_49 : decode cX7_off 49 = .ok (.aload_n 0, 1) := dk_42 (dk_at dksX7_off_2 2 rfl rfl)
theorem dX7_off_50 : decode cX7_off 50 = .ok (.getfield 7, 3) := dk_180 0 7 (dk_at dksX7_off_2 3 rfl rfl)
theorem dX7_off_53 : decode cX7_off 53 = .ok (.iload 4, 2) := dk_21 4 (dk_at dksX7_off_2 6 rfl rfl)
theorem dX7_off_55 : decode cX7_off 55 = .ok (.iaload, 1) := dk_46 (dk_at dksX7_off_2 8 rfl rfl)
theorem dX7_off_56 : decode cX7_off 56 = .ok (.iconst (-1), 1) := dk_2 (dk_at dksX7_off_2 9 rfl rfl)
theorem dX7_off_57 : decode cX7_off 57 = .ok (.if_icmp .eq 10, 3) := dk_159 0 10 (dk_at dksX7_off_2 10 rfl rfl)
theorem dX7_off_60 : decode cX7_off 60 = .ok (.aload_n 0, 1) := dk_42 (dk_at dksX7_off_2 13 rfl rfl)
theorem dX7_off_61 : decode cX7_off 61 = .ok (.bipush (-4), 2) := dk_16 252 (dk_at dksX7_off_2 14 rfl rfl)
theorem dX7_off_63 : decode cX7_off 63 = .ok (.invokevirtual 125, 3) := dk_182 0 125 (dk_at dksX7_off_2 16 rfl rfl)
theorem dX7_off_66 : decode cX7_off 66 = .ok (.ireturn, 1) := dk_172 (dk_at dksX7_off_2 19 rfl rfl)
theorem dX7_off_67 : decode cX7_off 67 = .ok (.aload_n 0, 1) := dk_42 (dk_at dksX7_off_2 20 rfl rfl)
theorem dX7_off_68 : decode cX7_off 68 = .ok (.getfield 7, 3) := dk_180 0 7 (dk_at dksX7_off_2 21 rfl rfl)
theorem dX7_off_71 : decode cX7_off 71 = .ok (.iload 4, 2) := dk_21 4 (dk_at dksX7_off_3 0 rfl rfl)
theorem dX7_off_73 : decode cX7_off 73 = .ok (.iload_n 2, 1) := dk_28 (dk_at dksX7_off_3 2 rfl rfl)
theorem dX7_off_74 : decode cX7_off 74 = .ok (.iastore, 1) := dk_79 (dk_at dksX7_off_3 3 rfl rfl)
theorem dX7_off_75 : decode cX7_off 75 = .ok (.aload_n 0, 1) := dk_42 (dk_at dksX7_off_3 4 rfl rfl)
theorem dX7_off_76 : decode cX7_off 76 = .ok (.getfield 7, 3) := dk_180 0 7 (dk_at dksX7_off_3 5 rfl rfl)
theorem dX7_off_79 : decode cX7_off 79 = .ok (.iload 4, 2) := dk_21 4 (dk_at dksX7_off_3 8 rfl rfl)
theorem dX7_off_81 : decode cX7_off 81 = .ok (.iconst 1, 1) := dk_4 (dk_at dksX7_off_3 10 rfl rfl)
theorem dX7_off_82 : decode cX7_off 82 = .ok (.iadd, 1) := dk_96 (dk_at dksX7_off_3 11 rfl rfl)
theorem dX7_off_83 : decode cX7_off 83 = .ok (.iload_n 3, 1) := dk_29 (dk_at dksX7_off_3 12 rfl rfl)
theorem dX7_off_84 : decode cX7_off 84 = .ok (.iastore, 1) := dk_79 (dk_at dksX7_off_3 13 rfl rfl)
theorem dX7_off_85 : decode cX7_off 85 = .ok (.aload_n 0, 1) := dk_42 (dk_at dksX7_off_3 14 rfl rfl)
theorem dX7_off_86 : decode cX7_off 86 = .ok (.iconst 0, 1) := dk_3 (dk_at dksX7_off_3 15 rfl rfl)
theorem dX7_off_87 : decode cX7_off 87 = .ok (.invokevirtual 125, 3) := dk_182 0 125 (dk_at dksX7_off_3 16 rfl rfl)
theorem dX7_off_90 : decode cX7_off 90 = .ok (.ireturn, 1) := dk_172 (dk_at dksX7_off_3 19 rfl rfl)
def dkwX7_isName_0 : List UInt8 := [27, 133, 9, 42, 180, 0, 7, 4, 46, 133, 10, 101, 184, 0, 121, 172]
abbrev dktX7_isName_0 : List UInt8 := dkwX7_isName_0 ++ []
theorem dksX7_isName_0 : cX7_isName.data.toList.drop 0 = dktX7_isName_0 := by decide +kernel
theorem dX7_isName_0 : decode cX7_isName 0 = .ok (.iload_n 1, 1) := dk_27 (dk_at dksX7_isName_0 0 rfl rfl)
theorem dX7_isName_1 : decode cX7_isName 1 = .ok (.i2l, 1) := dk_133 (dk_at dksX7_isName_0 1 rfl rfl)
theorem dX7_isName_2 : decode cX7_isName 2 = .ok (.lconst 0, 1) := dk_9 (dk_at dksX7_isName_0 2 rfl rfl)
theorem dX7_isName_3 : decode cX7_isName 3 = .ok (.aload_n 0, 1) := dk_42 (dk_at dksX7_isName_0 3 rfl rfl)
theorem dX7_isName_4 : decode cX7_isName 4 = .ok (.getfield 7, 3) := dk_180 0 7 (dk_at dksX7_isName_0 4 rfl rfl)
theorem dX7_isName_7 : decode cX7_isName 7 = .ok (.iconst 1, 1) := dk_4 (dk_at dksX7_isName_0 7 rfl rfl)
theorem dX7_isName_8 : decode cX7_isName 8 = .ok (.iaload, 1) := dk_46 (dk_at dksX7_isName_0 8 rfl rfl)
theorem dX7_isName_9 : decode cX7_isName 9 = .ok (.i2l, 1) := dk_133 (dk_at dksX7_isName_0 9 rfl rfl)
theorem dX7_isName_10 : decode cX7_isName 10 = .ok (.lconst 1, 1) := dk_10 (dk_at dksX7_isName_0 10 rfl rfl)
theorem dX7_isName_11 : decode cX7_isName 11 = .ok (.lsub, 1) := dk_101 (dk_at dksX7_isName_0 11 rfl rfl)
theorem dX7_isName_12 : decode cX7_isName 12 = .ok (.invokestatic 121, 3) := dk_184 0 121 (dk_at dksX7_isName_0 12 rfl rfl)
theorem dX7_isName_15 : decode cX7_isName 15 = .ok (.ireturn, 1) := dk_172 (dk_at dksX7_isName_0 15 rfl rfl)
def dkwX7_moved_5 : List UInt8 := [180, 0, 7, 21, 5, 5, 96, 21, 4, 79, 42, 3, 182, 0, 125, 172]
abbrev dktX7_moved_5 : List UInt8 := dkwX7_moved_5 ++ []
def dkwX7_moved_4 : List UInt8 := [182, 0, 125, 172, 42, 180, 0, 7, 21, 5, 28, 79, 42, 180, 0, 7, 21, 5, 4, 96, 29, 79, 42]
abbrev dktX7_moved_4 : List UInt8 := dkwX7_moved_4 ++ dktX7_moved_5
def dkwX7_moved_3 : List UInt8 := [27, 184, 0, 148, 16, 8, 96, 54, 5, 42, 180, 0, 7, 21, 5, 46, 2, 159, 0, 10, 42, 16, 252]
abbrev dktX7_moved_3 : List UInt8 := dkwX7_moved_3 ++ dktX7_moved_4
def dkwX7_moved_2 : List UInt8 := [182, 0, 125, 172, 42, 180, 0, 7, 27, 184, 0, 148, 46, 28, 160, 0, 10, 42, 16, 253, 182, 0, 125, 172]
abbrev dktX7_moved_2 : List UInt8 := dkwX7_moved_2 ++ dktX7_moved_3
def dkwX7_moved_1 : List UInt8 := [182, 0, 125, 172, 42, 27, 182, 0, 172, 153, 0, 11, 42, 28, 182, 0, 162, 154, 0, 10, 42, 16, 254]
abbrev dktX7_moved_1 : List UInt8 := dkwX7_moved_1 ++ dktX7_moved_2
def dkwX7_moved_0 : List UInt8 := [42, 3, 181, 0, 113, 29, 184, 0, 159, 153, 0, 11, 21, 4, 184, 0, 159, 154, 0, 9, 42, 2]
abbrev dktX7_moved_0 : List UInt8 := dkwX7_moved_0 ++ dktX7_moved_1
theorem dksX7_moved_0 : cX7_moved.data.toList.drop 0 = dktX7_moved_0 := by decide +kernel
theorem dksX7_moved_1 : cX7_moved.data.toList.drop 22 = dktX7_moved_1 := dk_seg dksX7_moved_0 22 rfl rfl
theorem dksX7_moved_2 : cX7_moved.data.toList.drop 45 = dktX7_moved_2 := dk_seg dksX7_moved_1 23 rfl rfl
theorem dksX7_moved_3 : cX7_moved.data.toList.drop 69 = dktX7_moved_3 := dk_seg dksX7_moved_2 24 rfl rfl
theorem dksX7_moved_4 : cX7_moved.data.toList.drop 92 = dktX7_moved_4 := dk_seg dksX7_moved_3 23 rfl rfl
theorem dksX7_moved_5 : cX7_moved.data.toList.drop 115 = dktX7_moved_5 := dk_seg dksX7_moved_4 23 rfl rfl
theorem dX7_moved_0 : decode cX7_moved 0 = .ok (.aload_n 0, 1) := dk_42 (dk_at dksX7_moved_0 0 rfl rfl)
theorem dX7_moved_1 : decode cX7_moved 1 = .ok (.iconst 0, 1) := dk_3 (dk_at dksX7_moved_0 1 rfl rfl)
theorem dX7_moved_2 : decode cX7_moved 2 = .ok (.putfield 113, 3) := dk_181 0 113 (dk_at dksX7_moved_0 2 rfl rfl)
theorem dX7_moved_5 : decode cX7_moved 5 = .ok (.iload_n 3, 1) := dk_29 (dk_at dksX7_moved_0 5 rfl rfl)
theorem dX7_moved_6 : decode cX7_moved 6 = .ok (.invokestatic 159, 3) := dk_184 0 159 (dk_at dksX7_moved_0 6 rfl rfl)
theorem dX7_moved_9 : decode cX7_moved 9 = .ok (.ifCond .eq 11, 3) := dk_153 0 11 (dk_at dksX7_moved_0 9 rfl rfl)
theorem dX7_moved_12 : decode cX7_moved 12 = .ok (.iload 4, 2) := dk_21 4 (dk_at dksX7_moved_0 12 rfl rfl)
theorem dX7_moved_14 : decode cX7_moved 14 = .ok (.invokestatic 159, 3) := dk_184 0 159 (dk_at dksX7_moved_0 14 rfl rfl)
theorem dX7_moved_17 : decode cX7_moved 17 = .ok (.ifCond .ne 9, 3) := dk_154 0 9 (dk_at dksX7_moved_0 17 rfl rfl)
theorem dX7_moved_20 : decode cX7_moved 20 = .ok (.aload_n 0, 1) := dk_42 (dk_at dksX7_moved_0 20 rfl rfl)
theorem dX7_moved_21 : decode cX7_moved 21 = .ok (.iconst (-1), 1) := dk_2 (dk_at dksX7_moved_0 21 rfl rfl)
theorem dX7_moved_22 : decode cX7_moved 22 = .ok (.invokevirtual 125, 3) := dk_182 0 125 (dk_at dksX7_moved_1 0 rfl rfl)
theorem dX7_moved_25 : decode cX7_moved 25 = .ok (.ireturn, 1) := dk_172 (dk_at dksX7_moved_1 3 rfl rfl)
theorem dX7_moved_26 : decode cX7_moved 26 = .ok (.aload_n 0, 1) := dk_42 (dk_at dksX7_moved_1 4 rfl rfl)
theorem dX7_moved_27 : decode cX7_moved 27 = .ok (.iload_n 1, 1) := dk_27 (dk_at dksX7_moved_1 5 rfl rfl)
theorem dX7_moved_28 : decode cX7_moved 28 = .ok (.invokevirtual 172, 3) := dk_182 0 172 (dk_at dksX7_moved_1 6 rfl rfl)
theorem dX7_moved_31 : decode cX7_moved 31 = .ok (.ifCond .eq 11, 3) := dk_153 0 11 (dk_at dksX7_moved_1 9 rfl rfl)
theorem dX7_moved_34 : decode cX7_moved 34 = .ok (.aload_n 0, 1) := dk_42 (dk_at dksX7_moved_1 12 rfl rfl)
theorem dX7_moved_35 : decode cX7_moved 35 = .ok (.iload_n 2, 1) := dk_28 (dk_at dksX7_moved_1 13 rfl rfl)
theorem dX7_moved_36 : decode cX7_moved 36 = .ok (.invokevirtual 162, 3) := dk_182 0 162 (dk_at dksX7_moved_1 14 rfl rfl)
theorem dX7_moved_39 : decode cX7_moved 39 = .ok (.ifCond .ne 10, 3) := dk_154 0 10 (dk_at dksX7_moved_1 17 rfl rfl)
theorem dX7_moved_42 : decode cX7_moved 42 = .ok (.aload_n 0, 1) := dk_42 (dk_at dksX7_moved_1 20 rfl rfl)
theorem dX7_moved_43 : decode cX7_moved 43 = .ok (.bipush (-2), 2) := dk_16 254 (dk_at dksX7_moved_1 21 rfl rfl)
theorem dX7_moved_45 : decode cX7_moved 45 = .ok (.invokevirtual 125, 3) := dk_182 0 125 (dk_at dksX7_moved_2 0 rfl rfl)
theorem dX7_moved_48 : decode cX7_moved 48 = .ok (.ireturn, 1) := dk_172 (dk_at dksX7_moved_2 3 rfl rfl)
theorem dX7_moved_49 : decode cX7_moved 49 = .ok (.aload_n 0, 1) := dk_42 (dk_at dksX7_moved_2 4 rfl rfl)
theorem dX7_moved_50 : decode cX7_moved 50 = .ok (.getfield 7, 3) := dk_180 0 7 (dk_at dksX7_moved_2 5 rfl rfl)
theorem dX7_moved_53 : decode cX7_moved 53 = .ok (.iload_n 1, 1) := dk_27 (dk_at dksX7_moved_2 8 rfl rfl)
theorem dX7_moved_54 : decode cX7_moved 54 = .ok (.invokestatic 148, 3) := dk_184 0 148 (dk_at dksX7_moved_2 9 rfl rfl)
theorem dX7_moved_57 : decode cX7_moved 57 = .ok (.iaload, 1) := dk_46 (dk_at dksX7_moved_2 12 rfl rfl)
theorem dX7_moved_58 : decode cX7_moved 58 = .ok (.iload_n 2, 1) := dk_28 (dk_at dksX7_moved_2 13 rfl rfl)
theorem dX7_moved_59 : decode cX7_moved 59 = .ok (.if_icmp .ne 10, 3) := dk_160 0 10 (dk_at dksX7_moved_2 14 rfl rfl)
theorem dX7_moved_62 : decode cX7_moved 62 = .ok (.aload_n 0, 1) := dk_42 (dk_at dksX7_moved_2 17 rfl rfl)
theorem dX7_moved_63 : decode cX7_moved 63 = .ok (.bipush (-3), 2) := dk_16 253 (dk_at dksX7_moved_2 18 rfl rfl)
theorem dX7_moved_65 : decode cX7_moved 65 = .ok (.invokevirtual 125, 3) := dk_182 0 125 (dk_at dksX7_moved_2 20 rfl rfl)
theorem dX7_moved_68 : decode cX7_moved 68 = .ok (.ireturn, 1) := dk_172 (dk_at dksX7_moved_2 23 rfl rfl)
theorem dX7_moved_69 : decode cX7_moved 69 = .ok (.iload_n 1, 1) := dk_27 (dk_at dksX7_moved_3 0 rfl rfl)
theorem dX7_moved_70 : decode cX7_moved 70 = .ok (.invokestatic 148, 3) := dk_184 0 148 (dk_at dksX7_moved_3 1 rfl rfl)
theorem dX7_moved_73 : decode cX7_moved 73 = .ok (.bipush 8, 2) := dk_16 8 (dk_at dksX7_moved_3 4 rfl rfl)
theorem dX7_moved_75 : decode cX7_moved 75 = .ok (.iadd, 1) := dk_96 (dk_at dksX7_moved_3 6 rfl rfl)
theorem dX7_moved_76 : decode cX7_moved 76 = .ok (.istore 5, 2) := dk_54 5 (dk_at dksX7_moved_3 7 rfl rfl)
theorem dX7_moved_78 : decode cX7_moved 78 = .ok (.aload_n 0, 1) := dk_42 (dk_at dksX7_moved_3 9 rfl rfl)
theorem dX7_moved_79 : decode cX7_moved 79 = .ok (.getfield 7, 3) := dk_180 0 7 (dk_at dksX7_moved_3 10 rfl rfl)
theorem dX7_moved_82 : decode cX7_moved 82 = .ok (.iload 5, 2) := dk_21 5 (dk_at dksX7_moved_3 13 rfl rfl)
theorem dX7_moved_84 : decode cX7_moved 84 = .ok (.iaload, 1) := dk_46 (dk_at dksX7_moved_3 15 rfl rfl)
theorem dX7_moved_85 : decode cX7_moved 85 = .ok (.iconst (-1), 1) := dk_2 (dk_at dksX7_moved_3 16 rfl rfl)
theorem dX7_moved_86 : decode cX7_moved 86 = .ok (.if_icmp .eq 10, 3) := dk_159 0 10 (dk_at dksX7_moved_3 17 rfl rfl)
theorem dX7_moved_89 : decode cX7_moved 89 = .ok (.aload_n 0, 1) := dk_42 (dk_at dksX7_moved_3 20 rfl rfl)
theorem dX7_moved_90 : decode cX7_moved 90 = .ok (.bipush (-4), 2) := dk_16 252 (dk_at dksX7_moved_3 21 rfl rfl)
theorem dX7_moved_92 : decode cX7_moved 92 = .ok (.invokevirtual 125, 3) := dk_182 0 125 (dk_at dksX7_moved_4 0 rfl rfl)
theorem dX7_moved_95 : decode cX7_moved 95 = .ok (.ireturn, 1) := dk_172 (dk_at dksX7_moved_4 3 rfl rfl)
theorem dX7_moved_96 : decode cX7_moved 96 = .ok (.aload_n 0, 1) := dk_42 (dk_at dksX7_moved_4 4 rfl rfl)
theorem dX7_moved_97 : decode cX7_moved 97 = .ok (.getfield 7, 3) := dk_180 0 7 (dk_at dksX7_moved_4 5 rfl rfl)
theorem dX7_moved_100 : decode cX7_moved 100 = .ok (.iload 5, 2) := dk_21 5 (dk_at dksX7_moved_4 8 rfl rfl)
theorem dX7_moved_102 : decode cX7_moved 102 = .ok (.iload_n 2, 1) := dk_28 (dk_at dksX7_moved_4 10 rfl rfl)
theorem dX7_moved_103 : decode cX7_moved 103 = .ok (.iastore, 1) := dk_79 (dk_at dksX7_moved_4 11 rfl rfl)
theorem dX7_moved_104 : decode cX7_moved 104 = .ok (.aload_n 0, 1) := dk_42 (dk_at dksX7_moved_4 12 rfl rfl)
theorem dX7_moved_105 : decode cX7_moved 105 = .ok (.getfield 7, 3) := dk_180 0 7 (dk_at dksX7_moved_4 13 rfl rfl)
theorem dX7_moved_108 : decode cX7_moved 108 = .ok (.iload 5, 2) := dk_21 5 (dk_at dksX7_moved_4 16 rfl rfl)
theorem dX7_moved_110 : decode cX7_moved 110 = .ok (.iconst 1, 1) := dk_4 (dk_at dksX7_moved_4 18 rfl rfl)
theorem dX7_moved_111 : decode cX7_moved 111 = .ok (.iadd, 1) := dk_96 (dk_at dksX7_moved_4 19 rfl rfl)
theorem dX7_moved_112 : decode cX7_moved 112 = .ok (.iload_n 3, 1) := dk_29 (dk_at dksX7_moved_4 20 rfl rfl)
theorem dX7_moved_113 : decode cX7_moved 113 = .ok (.iastore, 1) := dk_79 (dk_at dksX7_moved_4 21 rfl rfl)
theorem dX7_moved_114 : decode cX7_moved 114 = .ok (.aload_n 0, 1) := dk_42 (dk_at dksX7_moved_4 22 rfl rfl)
theorem dX7_moved_115 : decode cX7_moved 115 = .ok (.getfield 7, 3) := dk_180 0 7 (dk_at dksX7_moved_5 0 rfl rfl)
theorem dX7_moved_118 : decode cX7_moved 118 = .ok (.iload 5, 2) := dk_21 5 (dk_at dksX7_moved_5 3 rfl rfl)
theorem dX7_moved_120 : decode cX7_moved 120 = .ok (.iconst 2, 1) := dk_5 (dk_at dksX7_moved_5 5 rfl rfl)
theorem dX7_moved_121 : decode cX7_moved 121 = .ok (.iadd, 1) := dk_96 (dk_at dksX7_moved_5 6 rfl rfl)
theorem dX7_moved_122 : decode cX7_moved 122 = .ok (.iload 4, 2) := dk_21 4 (dk_at dksX7_moved_5 7 rfl rfl)
theorem dX7_moved_124 : decode cX7_moved 124 = .ok (.iastore, 1) := dk_79 (dk_at dksX7_moved_5 9 rfl rfl)
theorem dX7_moved_125 : decode cX7_moved 125 = .ok (.aload_n 0, 1) := dk_42 (dk_at dksX7_moved_5 10 rfl rfl)
theorem dX7_moved_126 : decode cX7_moved 126 = .ok (.iconst 0, 1) := dk_3 (dk_at dksX7_moved_5 11 rfl rfl)
theorem dX7_moved_127 : decode cX7_moved 127 = .ok (.invokevirtual 125, 3) := dk_182 0 125 (dk_at dksX7_moved_5 12 rfl rfl)
theorem dX7_moved_130 : decode cX7_moved 130 = .ok (.ireturn, 1) := dk_172 (dk_at dksX7_moved_5 15 rfl rfl)
def dkwX7_of_1 : List UInt8 := [153, 0, 17, 42, 180, 0, 7, 27, 184, 0, 148, 28, 96, 46, 167, 0, 4, 2, 172]
abbrev dktX7_of_1 : List UInt8 := dkwX7_of_1 ++ []
def dkwX7_of_0 : List UInt8 := [42, 3, 181, 0, 113, 42, 27, 182, 0, 172, 153, 0, 29, 28, 133, 9, 20, 0, 175, 184, 0, 121]
abbrev dktX7_of_0 : List UInt8 := dkwX7_of_0 ++ dktX7_of_1
theorem dksX7_of_0 : cX7_of.data.toList.drop 0 = dktX7_of_0 := by decide +kernel
theorem dksX7_of_1 : cX7_of.data.toList.drop 22 = dktX7_of_1 := dk_seg dksX7_of_0 22 rfl rfl
theorem dX7_of_0 : decode cX7_of 0 = .ok (.aload_n 0, 1) := dk_42 (dk_at dksX7_of_0 0 rfl rfl)
theorem dX7_of_1 : decode cX7_of 1 = .ok (.iconst 0, 1) := dk_3 (dk_at dksX7_of_0 1 rfl rfl)
theorem dX7_of_2 : decode cX7_of 2 = .ok (.putfield 113, 3) := dk_181 0 113 (dk_at dksX7_of_0 2 rfl rfl)
theorem dX7_of_5 : decode cX7_of 5 = .ok (.aload_n 0, 1) := dk_42 (dk_at dksX7_of_0 5 rfl rfl)
theorem dX7_of_6 : decode cX7_of 6 = .ok (.iload_n 1, 1) := dk_27 (dk_at dksX7_of_0 6 rfl rfl)
theorem dX7_of_7 : decode cX7_of 7 = .ok (.invokevirtual 172, 3) := dk_182 0 172 (dk_at dksX7_of_0 7 rfl rfl)
theorem dX7_of_10 : decode cX7_of 10 = .ok (.ifCond .eq 29, 3) := dk_153 0 29 (dk_at dksX7_of_0 10 rfl rfl)
theorem dX7_of_13 : decode cX7_of 13 = .ok (.iload_n 2, 1) := dk_28 (dk_at dksX7_of_0 13 rfl rfl)
theorem dX7_of_14 : decode cX7_of 14 = .ok (.i2l, 1) := dk_133 (dk_at dksX7_of_0 14 rfl rfl)
theorem dX7_of_15 : decode cX7_of 15 = .ok (.lconst 0, 1) := dk_9 (dk_at dksX7_of_0 15 rfl rfl)
theorem dX7_of_16 : decode cX7_of 16 = .ok (.ldc2_w 175, 3) := dk_20 0 175 (dk_at dksX7_of_0 16 rfl rfl)
theorem dX7_of_19 : decode cX7_of 19 = .ok (.invokestatic 121, 3) := dk_184 0 121 (dk_at dksX7_of_0 19 rfl rfl)
theorem dX7_of_22 : decode cX7_of 22 = .ok (.ifCond .eq 17, 3) := dk_153 0 17 (dk_at dksX7_of_1 0 rfl rfl)
theorem dX7_of_25 : decode cX7_of 25 = .ok (.aload_n 0, 1) := dk_42 (dk_at dksX7_of_1 3 rfl rfl)
theorem dX7_of_26 : decode cX7_of 26 = .ok (.getfield 7, 3) := dk_180 0 7 (dk_at dksX7_of_1 4 rfl rfl)
theorem dX7_of_29 : decode cX7_of 29 = .ok (.iload_n 1, 1) := dk_27 (dk_at dksX7_of_1 7 rfl rfl)
theorem dX7_of_30 : decode cX7_of 30 = .ok (.invokestatic 148, 3) := dk_184 0 148 (dk_at dksX7_of_1 8 rfl rfl)
theorem dX7_of_33 : decode cX7_of 33 = .ok (.iload_n 2, 1) := dk_28 (dk_at dksX7_of_1 11 rfl rfl)
theorem dX7_of_34 : decode cX7_of 34 = .ok (.iadd, 1) := dk_96 (dk_at dksX7_of_1 12 rfl rfl)
theorem dX7_of_35 : decode cX7_of 35 = .ok (.iaload, 1) := dk_46 (dk_at dksX7_of_1 13 rfl rfl)
theorem dX7_of_36 : decode cX7_of 36 = .ok (.goto 4, 3) := dk_167 0 4 (dk_at dksX7_of_1 14 rfl rfl)
theorem dX7_of_39 : decode cX7_of 39 = .ok (.iconst (-1), 1) := dk_2 (dk_at dksX7_of_1 17 rfl rfl)
theorem dX7_of_40 : decode cX7_of 40 = .ok (.ireturn, 1) := dk_172 (dk_at dksX7_of_1 18 rfl rfl)
def dkwX7_where_2 : List UInt8 := [182, 0, 181, 167, 0, 4, 2, 172]
abbrev dktX7_where_2 : List UInt8 := dkwX7_where_2 ++ []
def dkwX7_where_1 : List UInt8 := [153, 0, 28, 42, 180, 0, 7, 27, 184, 0, 148, 8, 96, 46, 29, 163, 0, 13, 42, 27, 28, 29]
abbrev dktX7_where_1 : List UInt8 := dkwX7_where_1 ++ dktX7_where_2
def dkwX7_where_0 : List UInt8 := [42, 3, 181, 0, 113, 42, 27, 182, 0, 172, 153, 0, 42, 28, 184, 0, 159, 153, 0, 35, 29, 184, 0, 159]
abbrev dktX7_where_0 : List UInt8 := dkwX7_where_0 ++ dktX7_where_1
theorem dksX7_where_0 : cX7_where.data.toList.drop 0 = dktX7_where_0 := by decide +kernel
theorem dksX7_where_1 : cX7_where.data.toList.drop 24 = dktX7_where_1 := dk_seg dksX7_where_0 24 rfl rfl
theorem dksX7_where_2 : cX7_where.data.toList.drop 46 = dktX7_where_2 := dk_seg dksX7_where_1 22 rfl rfl
theorem dX7_where_0 : decode cX7_where 0 = .ok (.aload_n 0, 1) := dk_42 (dk_at dksX7_where_0 0 rfl rfl)
theorem dX7_where_1 : decode cX7_where 1 = .ok (.iconst 0, 1) := dk_3 (dk_at dksX7_where_0 1 rfl rfl)
theorem dX7_where_2 : decode cX7_where 2 = .ok (.putfield 113, 3) := dk_181 0 113 (dk_at dksX7_where_0 2 rfl rfl)
theorem dX7_where_5 : decode cX7_where 5 = .ok (.aload_n 0, 1) := dk_42 (dk_at dksX7_where_0 5 rfl rfl)
theorem dX7_where_6 : decode cX7_where 6 = .ok (.iload_n 1, 1) := dk_27 (dk_at dksX7_where_0 6 rfl rfl)
theorem dX7_where_7 : decode cX7_where 7 = .ok (.invokevirtual 172, 3) := dk_182 0 172 (dk_at dksX7_where_0 7 rfl rfl)
theorem dX7_where_10 : decode cX7_where 10 = .ok (.ifCond .eq 42, 3) := dk_153 0 42 (dk_at dksX7_where_0 10 rfl rfl)
theorem dX7_where_13 : decode cX7_where 13 = .ok (.iload_n 2, 1) := dk_28 (dk_at dksX7_where_0 13 rfl rfl)
theorem dX7_where_14 : decode cX7_where 14 = .ok (.invokestatic 159, 3) := dk_184 0 159 (dk_at dksX7_where_0 14 rfl rfl)
theorem dX7_where_17 : decode cX7_where 17 = .ok (.ifCond .eq 35, 3) := dk_153 0 35 (dk_at dksX7_where_0 17 rfl rfl)
theorem dX7_where_20 : decode cX7_where 20 = .ok (.iload_n 3, 1) := dk_29 (dk_at dksX7_where_0 20 rfl rfl)
theorem dX7_where_21 : decode cX7_where 21 = .ok (.invokestatic 159, 3) := dk_184 0 159 (dk_at dksX7_where_0 21 rfl rfl)
theorem dX7_where_24 : decode cX7_where 24 = .ok (.ifCond .eq 28, 3) := dk_153 0 28 (dk_at dksX7_where_1 0 rfl rfl)
theorem dX7_where_27 : decode cX7_where 27 = .ok (.aload_n 0, 1) := dk_42 (dk_at dksX7_where_1 3 rfl rfl)
theorem dX7_where_28 : decode cX7_where 28 = .ok (.getfield 7, 3) := dk_180 0 7 (dk_at dksX7_where_1 4 rfl rfl)
theorem dX7_where_31 : decode cX7_where 31 = .ok (.iload_n 1, 1) := dk_27 (dk_at dksX7_where_1 7 rfl rfl)
theorem dX7_where_32 : decode cX7_where 32 = .ok (.invokestatic 148, 3) := dk_184 0 148 (dk_at dksX7_where_1 8 rfl rfl)
theorem dX7_where_35 : decode cX7_where 35 = .ok (.iconst 5, 1) := dk_8 (dk_at dksX7_where_1 11 rfl rfl)
theorem dX7_where_36 : decode cX7_where 36 = .ok (.iadd, 1) := dk_96 (dk_at dksX7_where_1 12 rfl rfl)
theorem dX7_where_37 : decode cX7_where 37 = .ok (.iaload, 1) := dk_46 (dk_at dksX7_where_1 13 rfl rfl)
theorem dX7_where_38 : decode cX7_where 38 = .ok (.iload_n 3, 1) := dk_29 (dk_at dksX7_where_1 14 rfl rfl)
theorem dX7_where_39 : decode cX7_where 39 = .ok (.if_icmp .gt 13, 3) := dk_163 0 13 (dk_at dksX7_where_1 15 rfl rfl)
theorem dX7_where_42 : decode cX7_where 42 = .ok (.aload_n 0, 1) := dk_42 (dk_at dksX7_where_1 18 rfl rfl)
theorem dX7_where_43 : decode cX7_where 43 = .ok (.iload_n 1, 1) := dk_27 (dk_at dksX7_where_1 19 rfl rfl)
theorem dX7_where_44 : decode cX7_where 44 = .ok (.iload_n 2, 1) := dk_28 (dk_at dksX7_where_1 20 rfl rfl)
theorem dX7_where_45 : decode cX7_where 45 = .ok (.iload_n 3, 1) := dk_29 (dk_at dksX7_where_1 21 rfl rfl)
theorem dX7_where_46 : decode cX7_where 46 = .ok (.invokevirtual 181, 3) := dk_182 0 181 (dk_at dksX7_where_2 0 rfl rfl)
theorem dX7_where_49 : decode cX7_where 49 = .ok (.goto 4, 3) := dk_167 0 4 (dk_at dksX7_where_2 3 rfl rfl)
theorem dX7_where_52 : decode cX7_where 52 = .ok (.iconst (-1), 1) := dk_2 (dk_at dksX7_where_2 6 rfl rfl)
theorem dX7_where_53 : decode cX7_where 53 = .ok (.ireturn, 1) := dk_172 (dk_at dksX7_where_2 7 rfl rfl)
def dkwX7_whereOf_1 : List UInt8 := [167, 0, 12, 42, 180, 0, 7, 27, 184, 0, 148, 46, 172]
abbrev dktX7_whereOf_1 : List UInt8 := dkwX7_whereOf_1 ++ []
def dkwX7_whereOf_0 : List UInt8 := [42, 27, 28, 29, 182, 0, 177, 153, 0, 18, 42, 180, 0, 7, 27, 184, 0, 148, 16, 8, 96, 46]
abbrev dktX7_whereOf_0 : List UInt8 := dkwX7_whereOf_0 ++ dktX7_whereOf_1
theorem dksX7_whereOf_0 : cX7_whereOf.data.toList.drop 0 = dktX7_whereOf_0 := by decide +kernel
theorem dksX7_whereOf_1 : cX7_whereOf.data.toList.drop 22 = dktX7_whereOf_1 := dk_seg dksX7_whereOf_0 22 rfl rfl
theorem dX7_whereOf_0 : decode cX7_whereOf 0 = .ok (.aload_n 0, 1) := dk_42 (dk_at dksX7_whereOf_0 0 rfl rfl)
theorem dX7_whereOf_1 : decode cX7_whereOf 1 = .ok (.iload_n 1, 1) := dk_27 (dk_at dksX7_whereOf_0 1 rfl rfl)
theorem dX7_whereOf_2 : decode cX7_whereOf 2 = .ok (.iload_n 2, 1) := dk_28 (dk_at dksX7_whereOf_0 2 rfl rfl)
theorem dX7_whereOf_3 : decode cX7_whereOf 3 = .ok (.iload_n 3, 1) := dk_29 (dk_at dksX7_whereOf_0 3 rfl rfl)
theorem dX7_whereOf_4 : decode cX7_whereOf 4 = .ok (.invokevirtual 177, 3) := dk_182 0 177 (dk_at dksX7_whereOf_0 4 rfl rfl)
theorem dX7_whereOf_7 : decode cX7_whereOf 7 = .ok (.ifCond .eq 18, 3) := dk_153 0 18 (dk_at dksX7_whereOf_0 7 rfl rfl)
theorem dX7_whereOf_10 : decode cX7_whereOf 10 = .ok (.aload_n 0, 1) := dk_42 (dk_at dksX7_whereOf_0 10 rfl rfl)
theorem dX7_whereOf_11 : decode cX7_whereOf 11 = .ok (.getfield 7, 3) := dk_180 0 7 (dk_at dksX7_whereOf_0 11 rfl rfl)
theorem dX7_whereOf_14 : decode cX7_whereOf 14 = .ok (.iload_n 1, 1) := dk_27 (dk_at dksX7_whereOf_0 14 rfl rfl)
theorem dX7_whereOf_15 : decode cX7_whereOf 15 = .ok (.invokestatic 148, 3) := dk_184 0 148 (dk_at dksX7_whereOf_0 15 rfl rfl)
theorem dX7_whereOf_18 : decode cX7_whereOf 18 = .ok (.bipush 8, 2) := dk_16 8 (dk_at dksX7_whereOf_0 18 rfl rfl)
theorem dX7_whereOf_20 : decode cX7_whereOf 20 = .ok (.iadd, 1) := dk_96 (dk_at dksX7_whereOf_0 20 rfl rfl)
theorem dX7_whereOf_21 : decode cX7_whereOf 21 = .ok (.iaload, 1) := dk_46 (dk_at dksX7_whereOf_0 21 rfl rfl)
theorem dX7_whereOf_22 : decode cX7_whereOf 22 = .ok (.goto 12, 3) := dk_167 0 12 (dk_at dksX7_whereOf_1 0 rfl rfl)
theorem dX7_whereOf_25 : decode cX7_whereOf 25 = .ok (.aload_n 0, 1) := dk_42 (dk_at dksX7_whereOf_1 3 rfl rfl)
theorem dX7_whereOf_26 : decode cX7_whereOf 26 = .ok (.getfield 7, 3) := dk_180 0 7 (dk_at dksX7_whereOf_1 4 rfl rfl)
theorem dX7_whereOf_29 : decode cX7_whereOf 29 = .ok (.iload_n 1, 1) := dk_27 (dk_at dksX7_whereOf_1 7 rfl rfl)
theorem dX7_whereOf_30 : decode cX7_whereOf 30 = .ok (.invokestatic 148, 3) := dk_184 0 148 (dk_at dksX7_whereOf_1 8 rfl rfl)
theorem dX7_whereOf_33 : decode cX7_whereOf 33 = .ok (.iaload, 1) := dk_46 (dk_at dksX7_whereOf_1 11 rfl rfl)
theorem dX7_whereOf_34 : decode cX7_whereOf 34 = .ok (.ireturn, 1) := dk_172 (dk_at dksX7_whereOf_1 12 rfl rfl)
def dkwX7_hasMoved_2 : List UInt8 := [167, 0, 4, 3, 172]
abbrev dktX7_hasMoved_2 : List UInt8 := dkwX7_hasMoved_2 ++ []
def dkwX7_hasMoved_1 : List UInt8 := [21, 4, 4, 96, 46, 28, 163, 0, 20, 42, 180, 0, 7, 21, 4, 5, 96, 46, 29, 163, 0, 7, 4]
abbrev dktX7_hasMoved_1 : List UInt8 := dkwX7_hasMoved_1 ++ dktX7_hasMoved_2
def dkwX7_hasMoved_0 : List UInt8 := [27, 184, 0, 148, 16, 8, 96, 54, 4, 42, 180, 0, 7, 21, 4, 46, 2, 159, 0, 33, 42, 180, 0, 7]
abbrev dktX7_hasMoved_0 : List UInt8 := dkwX7_hasMoved_0 ++ dktX7_hasMoved_1
theorem dksX7_hasMoved_0 : cX7_hasMoved.data.toList.drop 0 = dktX7_hasMoved_0 := by decide +kernel
theorem dksX7_hasMoved_1 : cX7_hasMoved.data.toList.drop 24 = dktX7_hasMoved_1 := dk_seg dksX7_hasMoved_0 24 rfl rfl
theorem dksX7_hasMoved_2 : cX7_hasMoved.data.toList.drop 47 = dktX7_hasMoved_2 := dk_seg dksX7_hasMoved_1 23 rfl rfl
theorem dX7_hasMoved_0 : decode cX7_hasMoved 0 = .ok (.iload_n 1, 1) := dk_27 (dk_at dksX7_hasMoved_0 0 rfl rfl)
theorem dX7_hasMoved_1 : decode cX7_hasMoved 1 = .ok (.invokestatic 148, 3) := dk_184 0 148 (dk_at dksX7_hasMoved_0 1 rfl rfl)
theorem dX7_hasMoved_4 : decode cX7_hasMoved 4 = .ok (.bipush 8, 2) := dk_16 8 (dk_at dksX7_hasMoved_0 4 rfl rfl)
theorem dX7_hasMoved_6 : decode cX7_hasMoved 6 = .ok (.iadd, 1) := dk_96 (dk_at dksX7_hasMoved_0 6 rfl rfl)
theorem dX7_hasMoved_7 : decode cX7_hasMoved 7 = .ok (.istore 4, 2) := dk_54 4 (dk_at dksX7_hasMoved_0 7 rfl rfl)
theorem dX7_hasMoved_9 : decode cX7_hasMoved 9 = .ok (.aload_n 0, 1) := dk_42 (dk_at dksX7_hasMoved_0 9 rfl rfl)
theorem dX7_hasMoved_10 : decode cX7_hasMoved 10 = .ok (.getfield 7, 3) := dk_180 0 7 (dk_at dksX7_hasMoved_0 10 rfl rfl)
theorem dX7_hasMoved_13 : decode cX7_hasMoved 13 = .ok (.iload 4, 2) := dk_21 4 (dk_at dksX7_hasMoved_0 13 rfl rfl)
theorem dX7_hasMoved_15 : decode cX7_hasMoved 15 = .ok (.iaload, 1) := dk_46 (dk_at dksX7_hasMoved_0 15 rfl rfl)
theorem dX7_hasMoved_16 : decode cX7_hasMoved 16 = .ok (.iconst (-1), 1) := dk_2 (dk_at dksX7_hasMoved_0 16 rfl rfl)
theorem dX7_hasMoved_17 : decode cX7_hasMoved 17 = .ok (.if_icmp .eq 33, 3) := dk_159 0 33 (dk_at dksX7_hasMoved_0 17 rfl rfl)
theorem dX7_hasMoved_20 : decode cX7_hasMoved 20 = .ok (.aload_n 0, 1) := dk_42 (dk_at dksX7_hasMoved_0 20 rfl rfl)
theorem dX7_hasMoved_21 : decode cX7_hasMoved 21 = .ok (.getfield 7, 3) := dk_180 0 7 (dk_at dksX7_hasMoved_0 21 rfl rfl)
theorem dX7_hasMoved_24 : decode cX7_hasMoved 24 = .ok (.iload 4, 2) := dk_21 4 (dk_at dksX7_hasMoved_1 0 rfl rfl)
theorem dX7_hasMoved_26 : decode cX7_hasMoved 26 = .ok (.iconst 1, 1) := dk_4 (dk_at dksX7_hasMoved_1 2 rfl rfl)
theorem dX7_hasMoved_27 : decode cX7_hasMoved 27 = .ok (.iadd, 1) := dk_96 (dk_at dksX7_hasMoved_1 3 rfl rfl)
theorem dX7_hasMoved_28 : decode cX7_hasMoved 28 = .ok (.iaload, 1) := dk_46 (dk_at dksX7_hasMoved_1 4 rfl rfl)
theorem dX7_hasMoved_29 : decode cX7_hasMoved 29 = .ok (.iload_n 2, 1) := dk_28 (dk_at dksX7_hasMoved_1 5 rfl rfl)
theorem dX7_hasMoved_30 : decode cX7_hasMoved 30 = .ok (.if_icmp .gt 20, 3) := dk_163 0 20 (dk_at dksX7_hasMoved_1 6 rfl rfl)
theorem dX7_hasMoved_33 : decode cX7_hasMoved 33 = .ok (.aload_n 0, 1) := dk_42 (dk_at dksX7_hasMoved_1 9 rfl rfl)
theorem dX7_hasMoved_34 : decode cX7_hasMoved 34 = .ok (.getfield 7, 3) := dk_180 0 7 (dk_at dksX7_hasMoved_1 10 rfl rfl)
theorem dX7_hasMoved_37 : decode cX7_hasMoved 37 = .ok (.iload 4, 2) := dk_21 4 (dk_at dksX7_hasMoved_1 13 rfl rfl)
theorem dX7_hasMoved_39 : decode cX7_hasMoved 39 = .ok (.iconst 2, 1) := dk_5 (dk_at dksX7_hasMoved_1 15 rfl rfl)
theorem dX7_hasMoved_40 : decode cX7_hasMoved 40 = .ok (.iadd, 1) := dk_96 (dk_at dksX7_hasMoved_1 16 rfl rfl)
theorem dX7_hasMoved_41 : decode cX7_hasMoved 41 = .ok (.iaload, 1) := dk_46 (dk_at dksX7_hasMoved_1 17 rfl rfl)
theorem dX7_hasMoved_42 : decode cX7_hasMoved 42 = .ok (.iload_n 3, 1) := dk_29 (dk_at dksX7_hasMoved_1 18 rfl rfl)
theorem dX7_hasMoved_43 : decode cX7_hasMoved 43 = .ok (.if_icmp .gt 7, 3) := dk_163 0 7 (dk_at dksX7_hasMoved_1 19 rfl rfl)
theorem dX7_hasMoved_46 : decode cX7_hasMoved 46 = .ok (.iconst 1, 1) := dk_4 (dk_at dksX7_hasMoved_1 22 rfl rfl)
theorem dX7_hasMoved_47 : decode cX7_hasMoved 47 = .ok (.goto 4, 3) := dk_167 0 4 (dk_at dksX7_hasMoved_2 0 rfl rfl)
theorem dX7_hasMoved_50 : decode cX7_hasMoved 50 = .ok (.iconst 0, 1) := dk_3 (dk_at dksX7_hasMoved_2 3 rfl rfl)
theorem dX7_hasMoved_51 : decode cX7_hasMoved 51 = .ok (.ireturn, 1) := dk_172 (dk_at dksX7_hasMoved_2 4 rfl rfl)
def dkwX7_on_2 : List UInt8 := [182, 0, 202, 153, 0, 7, 4, 167, 0, 4, 3, 172]
abbrev dktX7_on_2 : List UInt8 := dkwX7_on_2 ++ []
def dkwX7_on_1 : List UInt8 := [154, 0, 5, 2, 172, 42, 28, 181, 0, 188, 42, 29, 181, 0, 185, 42, 28, 182, 0, 199, 42, 27]
abbrev dktX7_on_1 : List UInt8 := dkwX7_on_1 ++ dktX7_on_2
def dkwX7_on_0 : List UInt8 := [42, 3, 181, 0, 113, 42, 27, 182, 0, 172, 153, 0, 17, 28, 184, 0, 159, 153, 0, 10, 29, 184, 0, 159]
abbrev dktX7_on_0 : List UInt8 := dkwX7_on_0 ++ dktX7_on_1
theorem dksX7_on_0 : cX7_on.data.toList.drop 0 = dktX7_on_0 := by decide +kernel
theorem dksX7_on_1 : cX7_on.data.toList.drop 24 = dktX7_on_1 := dk_seg dksX7_on_0 24 rfl rfl
theorem dksX7_on_2 : cX7_on.data.toList.drop 46 = dktX7_on_2 := dk_seg dksX7_on_1 22 rfl rfl
theorem dX7_on_0 : decode cX7_on 0 = .ok (.aload_n 0, 1) := dk_42 (dk_at dksX7_on_0 0 rfl rfl)
theorem dX7_on_1 : decode cX7_on 1 = .ok (.iconst 0, 1) := dk_3 (dk_at dksX7_on_0 1 rfl rfl)
theorem dX7_on_2 : decode cX7_on 2 = .ok (.putfield 113, 3) := dk_181 0 113 (dk_at dksX7_on_0 2 rfl rfl)
theorem dX7_on_5 : decode cX7_on 5 = .ok (.aload_n 0, 1) := dk_42 (dk_at dksX7_on_0 5 rfl rfl)
theorem dX7_on_6 : decode cX7_on 6 = .ok (.iload_n 1, 1) := dk_27 (dk_at dksX7_on_0 6 rfl rfl)
theorem dX7_on_7 : decode cX7_on 7 = .ok (.invokevirtual 172, 3) := dk_182 0 172 (dk_at dksX7_on_0 7 rfl rfl)
theorem dX7_on_10 : decode cX7_on 10 = .ok (.ifCond .eq 17, 3) := dk_153 0 17 (dk_at dksX7_on_0 10 rfl rfl)
theorem dX7_on_13 : decode cX7_on 13 = .ok (.iload_n 2, 1) := dk_28 (dk_at dksX7_on_0 13 rfl rfl)
theorem dX7_on_14 : decode cX7_on 14 = .ok (.invokestatic 159, 3) := dk_184 0 159 (dk_at dksX7_on_0 14 rfl rfl)
theorem dX7_on_17 : decode cX7_on 17 = .ok (.ifCond .eq 10, 3) := dk_153 0 10 (dk_at dksX7_on_0 17 rfl rfl)
theorem dX7_on_20 : decode cX7_on 20 = .ok (.iload_n 3, 1) := dk_29 (dk_at dksX7_on_0 20 rfl rfl)
theorem dX7_on_21 : decode cX7_on 21 = .ok (.invokestatic 159, 3) := dk_184 0 159 (dk_at dksX7_on_0 21 rfl rfl)
theorem dX7_on_24 : decode cX7_on 24 = .ok (.ifCond .ne 5, 3) := dk_154 0 5 (dk_at dksX7_on_1 0 rfl rfl)
theorem dX7_on_27 : decode cX7_on 27 = .ok (.iconst (-1), 1) := dk_2 (dk_at dksX7_on_1 3 rfl rfl)
theorem dX7_on_28 : decode cX7_on 28 = .ok (.ireturn, 1) := dk_172 (dk_at dksX7_on_1 4 rfl rfl)
theorem dX7_on_29 : decode cX7_on 29 = .ok (.aload_n 0, 1) := dk_42 (dk_at dksX7_on_1 5 rfl rfl)
theorem dX7_on_30 : decode cX7_on 30 = .ok (.iload_n 2, 1) := dk_28 (dk_at dksX7_on_1 6 rfl rfl)
theorem dX7_on_31 : decode cX7_on 31 = .ok (.putfield 188, 3) := dk_181 0 188 (dk_at dksX7_on_1 7 rfl rfl)
theorem dX7_on_34 : decode cX7_on 34 = .ok (.aload_n 0, 1) := dk_42 (dk_at dksX7_on_1 10 rfl rfl)
theorem dX7_on_35 : decode cX7_on 35 = .ok (.iload_n 3, 1) := dk_29 (dk_at dksX7_on_1 11 rfl rfl)
theorem dX7_on_36 : decode cX7_on 36 = .ok (.putfield 185, 3) := dk_181 0 185 (dk_at dksX7_on_1 12 rfl rfl)
theorem dX7_on_39 : decode cX7_on 39 = .ok (.aload_n 0, 1) := dk_42 (dk_at dksX7_on_1 15 rfl rfl)
theorem dX7_on_40 : decode cX7_on 40 = .ok (.iload_n 2, 1) := dk_28 (dk_at dksX7_on_1 16 rfl rfl)
theorem dX7_on_41 : decode cX7_on 41 = .ok (.invokevirtual 199, 3) := dk_182 0 199 (dk_at dksX7_on_1 17 rfl rfl)
theorem dX7_on_44 : decode cX7_on 44 = .ok (.aload_n 0, 1) := dk_42 (dk_at dksX7_on_1 20 rfl rfl)
theorem dX7_on_45 : decode cX7_on 45 = .ok (.iload_n 1, 1) := dk_27 (dk_at dksX7_on_1 21 rfl rfl)
theorem dX7_on_46 : decode cX7_on 46 = .ok (.invokevirtual 202, 3) := dk_182 0 202 (dk_at dksX7_on_2 0 rfl rfl)
theorem dX7_on_49 : decode cX7_on 49 = .ok (.ifCond .eq 7, 3) := dk_153 0 7 (dk_at dksX7_on_2 3 rfl rfl)
theorem dX7_on_52 : decode cX7_on 52 = .ok (.iconst 1, 1) := dk_4 (dk_at dksX7_on_2 6 rfl rfl)
theorem dX7_on_53 : decode cX7_on 53 = .ok (.goto 4, 3) := dk_167 0 4 (dk_at dksX7_on_2 7 rfl rfl)
theorem dX7_on_56 : decode cX7_on 56 = .ok (.iconst 0, 1) := dk_3 (dk_at dksX7_on_2 10 rfl rfl)
theorem dX7_on_57 : decode cX7_on 57 = .ok (.ireturn, 1) := dk_172 (dk_at dksX7_on_2 11 rfl rfl)
def dkwX7_findForce_7 : List UInt8 := [167, 255, 157, 132, 2, 255, 167, 255, 121, 177]
abbrev dktX7_findForce_7 : List UInt8 := dkwX7_findForce_7 ++ []
def dkwX7_findForce_6 : List UInt8 := [180, 0, 7, 21, 4, 4, 96, 46, 104, 42, 180, 0, 7, 21, 4, 5, 96, 46, 96, 4, 84, 132, 3, 1]
abbrev dktX7_findForce_6 : List UInt8 := dkwX7_findForce_6 ++ dktX7_findForce_7
def dkwX7_findForce_5 : List UInt8 := [154, 0, 44, 42, 180, 0, 7, 21, 4, 4, 96, 46, 28, 162, 0, 31, 42, 180, 0, 52, 16, 12, 42]
abbrev dktX7_findForce_5 : List UInt8 := dkwX7_findForce_5 ++ dktX7_findForce_6
def dkwX7_findForce_4 : List UInt8 := [54, 4, 42, 180, 0, 7, 21, 4, 46, 154, 0, 58, 42, 180, 0, 52, 16, 12, 28, 104, 29, 96, 51]
abbrev dktX7_findForce_4 : List UInt8 := dkwX7_findForce_4 ++ dktX7_findForce_5
def dkwX7_findForce_3 : List UInt8 := [184, 1, 167, 4, 96, 46, 162, 0, 90, 42, 180, 0, 49, 28, 51, 153, 0, 81, 28, 29, 184, 1, 170]
abbrev dktX7_findForce_3 : List UInt8 := dkwX7_findForce_3 ++ dktX7_findForce_4
def dkwX7_findForce_2 : List UInt8 := [184, 1, 167, 46, 27, 163, 0, 7, 4, 167, 0, 4, 3, 84, 3, 62, 29, 42, 180, 0, 7, 28]
abbrev dktX7_findForce_2 : List UInt8 := dkwX7_findForce_2 ++ dktX7_findForce_3
def dkwX7_findForce_1 : List UInt8 := [180, 0, 7, 5, 46, 4, 100, 61, 28, 155, 0, 137, 42, 180, 0, 49, 28, 42, 180, 0, 7, 28]
abbrev dktX7_findForce_1 : List UInt8 := dkwX7_findForce_1 ++ dktX7_findForce_2
def dkwX7_findForce_0 : List UInt8 := [3, 61, 28, 17, 0, 240, 162, 0, 16, 42, 180, 0, 52, 28, 3, 84, 132, 2, 1, 167, 255, 239, 42]
abbrev dktX7_findForce_0 : List UInt8 := dkwX7_findForce_0 ++ dktX7_findForce_1
theorem dksX7_findForce_0 : cX7_findForce.data.toList.drop 0 = dktX7_findForce_0 := by decide +kernel
theorem dksX7_findForce_1 : cX7_findForce.data.toList.drop 23 = dktX7_findForce_1 := dk_seg dksX7_findForce_0 23 rfl rfl
theorem dksX7_findForce_2 : cX7_findForce.data.toList.drop 45 = dktX7_findForce_2 := dk_seg dksX7_findForce_1 22 rfl rfl
theorem dksX7_findForce_3 : cX7_findForce.data.toList.drop 67 = dktX7_findForce_3 := dk_seg dksX7_findForce_2 22 rfl rfl
theorem dksX7_findForce_4 : cX7_findForce.data.toList.drop 90 = dktX7_findForce_4 := dk_seg dksX7_findForce_3 23 rfl rfl
theorem dksX7_findForce_5 : cX7_findForce.data.toList.drop 113 = dktX7_findForce_5 := dk_seg dksX7_findForce_4 23 rfl rfl
theorem dksX7_findForce_6 : cX7_findForce.data.toList.drop 136 = dktX7_findForce_6 := dk_seg dksX7_findForce_5 23 rfl rfl
theorem dksX7_findForce_7 : cX7_findForce.data.toList.drop 160 = dktX7_findForce_7 := dk_seg dksX7_findForce_6 24 rfl rfl
theorem dX7_findForce_0 : decode cX7_findForce 0 = .ok (.iconst 0, 1) := dk_3 (dk_at dksX7_findForce_0 0 rfl rfl)
theorem dX7_findForce_1 : decode cX7_findForce 1 = .ok (.istore_n 2, 1) := dk_61 (dk_at dksX7_findForce_0 1 rfl rfl)
theorem dX7_findForce_2 : decode cX7_findForce 2 = .ok (.iload_n 2, 1) := dk_28 (dk_at dksX7_findForce_0 2 rfl rfl)
theorem dX7_findForce_3 : decode cX7_findForce 3 = .ok (.sipush 240, 3) := dk_17 0 240 (dk_at dksX7_findForce_0 3 rfl rfl)
theorem dX7_findForce_6 : decode cX7_findForce 6 = .ok (.if_icmp .ge 16, 3) := dk_162 0 16 (dk_at dksX7_findForce_0 6 rfl rfl)
theorem dX7_findForce_9 : decode cX7_findForce 9 = .ok (.aload_n 0, 1) := dk_42 (dk_at dksX7_findForce_0 9 rfl rfl)
theorem dX7_findForce_10 : decode cX7_findForce 10 = .ok (.getfield 52, 3) := dk_180 0 52 (dk_at dksX7_findForce_0 10 rfl rfl)
theorem dX7_findForce_13 : decode cX7_findForce 13 = .ok (.iload_n 2, 1) := dk_28 (dk_at dksX7_findForce_0 13 rfl rfl)
theorem dX7_findForce_14 : decode cX7_findForce 14 = .ok (.iconst 0, 1) := dk_3 (dk_at dksX7_findForce_0 14 rfl rfl)
theorem dX7_findForce_15 : decode cX7_findForce 15 = .ok (.bastore, 1) := dk_84 (dk_at dksX7_findForce_0 15 rfl rfl)
theorem dX7_findForce_16 : decode cX7_findForce 16 = .ok (.iinc 2 1, 3) := dk_132 2 1 (dk_at dksX7_findForce_0 16 rfl rfl)
theorem dX7_findForce_19 : decode cX7_findForce 19 = .ok (.goto (-17), 3) := dk_167 255 239 (dk_at dksX7_findForce_0 19 rfl rfl)
theorem dX7_findForce_22 : decode cX7_findForce 22 = .ok (.aload_n 0, 1) := dk_42 (dk_at dksX7_findForce_0 22 rfl rfl)
theorem dX7_findForce_23 : decode cX7_findForce 23 = .ok (.getfield 7, 3) := dk_180 0 7 (dk_at dksX7_findForce_1 0 rfl rfl)
theorem dX7_findForce_26 : decode cX7_findForce 26 = .ok (.iconst 2, 1) := dk_5 (dk_at dksX7_findForce_1 3 rfl rfl)
theorem dX7_findForce_27 : decode cX7_findForce 27 = .ok (.iaload, 1) := dk_46 (dk_at dksX7_findForce_1 4 rfl rfl)
theorem dX7_findForce_28 : decode cX7_findForce 28 = .ok (.iconst 1, 1) := dk_4 (dk_at dksX7_findForce_1 5 rfl rfl)
theorem dX7_findForce_29 : decode cX7_findForce 29 = .ok (.isub, 1) := dk_100 (dk_at dksX7_findForce_1 6 rfl rfl)
theorem dX7_findForce_30 : decode cX7_findForce 30 = .ok (.istore_n 2, 1) := dk_61 (dk_at dksX7_findForce_1 7 rfl rfl)
theorem dX7_findForce_31 : decode cX7_findForce 31 = .ok (.iload_n 2, 1) := dk_28 (dk_at dksX7_findForce_1 8 rfl rfl)
theorem dX7_findForce_32 : decode cX7_findForce 32 = .ok (.ifCond .lt 137, 3) := dk_155 0 137 (dk_at dksX7_findForce_1 9 rfl rfl)
theorem dX7_findForce_35 : decode cX7_findForce 35 = .ok (.aload_n 0, 1) := dk_42 (dk_at dksX7_findForce_1 12 rfl rfl)
theorem dX7_findForce_36 : decode cX7_findForce 36 = .ok (.getfield 49, 3) := dk_180 0 49 (dk_at dksX7_findForce_1 13 rfl rfl)
theorem dX7_findForce_39 : decode cX7_findForce 39 = .ok (.iload_n 2, 1) := dk_28 (dk_at dksX7_findForce_1 16 rfl rfl)
theorem dX7_findForce_40 : decode cX7_findForce 40 = .ok (.aload_n 0, 1) := dk_42 (dk_at dksX7_findForce_1 17 rfl rfl)
theorem dX7_findForce_41 : decode cX7_findForce 41 = .ok (.getfield 7, 3) := dk_180 0 7 (dk_at dksX7_findForce_1 18 rfl rfl)
theorem dX7_findForce_44 : decode cX7_findForce 44 = .ok (.iload_n 2, 1) := dk_28 (dk_at dksX7_findForce_1 21 rfl rfl)
theorem dX7_findForce_45 : decode cX7_findForce 45 = .ok (.invokestatic 423, 3) := dk_184 1 167 (dk_at dksX7_findForce_2 0 rfl rfl)
theorem dX7_findForce_48 : decode cX7_findForce 48 = .ok (.iaload, 1) := dk_46 (dk_at dksX7_findForce_2 3 rfl rfl)
theorem dX7_findForce_49 : decode cX7_findForce 49 = .ok (.iload_n 1, 1) := dk_27 (dk_at dksX7_findForce_2 4 rfl rfl)
theorem dX7_findForce_50 : decode cX7_findForce 50 = .ok (.if_icmp .gt 7, 3) := dk_163 0 7 (dk_at dksX7_findForce_2 5 rfl rfl)
theorem dX7_findForce_53 : decode cX7_findForce 53 = .ok (.iconst 1, 1) := dk_4 (dk_at dksX7_findForce_2 8 rfl rfl)
theorem dX7_findForce_54 : decode cX7_findForce 54 = .ok (.goto 4, 3) := dk_167 0 4 (dk_at dksX7_findForce_2 9 rfl rfl)
theorem dX7_findForce_57 : decode cX7_findForce 57 = .ok (.iconst 0, 1) := dk_3 (dk_at dksX7_findForce_2 12 rfl rfl)
theorem dX7_findForce_58 : decode cX7_findForce 58 = .ok (.bastore, 1) := dk_84 (dk_at dksX7_findForce_2 13 rfl rfl)
theorem dX7_findForce_59 : decode cX7_findForce 59 = .ok (.iconst 0, 1) := dk_3 (dk_at dksX7_findForce_2 14 rfl rfl)
theorem dX7_findForce_60 : decode cX7_findForce 60 = .ok (.istore_n 3, 1) := dk_62 (dk_at dksX7_findForce_2 15 rfl rfl)
theorem dX7_findForce_61 : decode cX7_findForce 61 = .ok (.iload_n 3, 1) := dk_29 (dk_at dksX7_findForce_2 16 rfl rfl)
theorem dX7_findForce_62 : decode cX7_findForce 62 = .ok (.aload_n 0, 1) := dk_42 (dk_at dksX7_findForce_2 17 rfl rfl)
theorem dX7_findForce_63 : decode cX7_findForce 63 = .ok (.getfield 7, 3) := dk_180 0 7 (dk_at dksX7_findForce_2 18 rfl rfl)
theorem dX7_findForce_66 : decode cX7_findForce 66 = .ok (.iload_n 2, 1) := dk_28 (dk_at dksX7_findForce_2 21 rfl rfl)
theorem dX7_findForce_67 : decode cX7_findForce 67 = .ok (.invokestatic 423, 3) := dk_184 1 167 (dk_at dksX7_findForce_3 0 rfl rfl)
theorem dX7_findForce_70 : decode cX7_findForce 70 = .ok (.iconst 1, 1) := dk_4 (dk_at dksX7_findForce_3 3 rfl rfl)
theorem dX7_findForce_71 : decode cX7_findForce 71 = .ok (.iadd, 1) := dk_96 (dk_at dksX7_findForce_3 4 rfl rfl)
theorem dX7_findForce_72 : decode cX7_findForce 72 = .ok (.iaload, 1) := dk_46 (dk_at dksX7_findForce_3 5 rfl rfl)
theorem dX7_findForce_73 : decode cX7_findForce 73 = .ok (.if_icmp .ge 90, 3) := dk_162 0 90 (dk_at dksX7_findForce_3 6 rfl rfl)
theorem dX7_findForce_76 : decode cX7_findForce 76 = .ok (.aload_n 0, 1) := dk_42 (dk_at dksX7_findForce_3 9 rfl rfl)
theorem dX7_findForce_77 : decode cX7_findForce 77 = .ok (.getfield 49, 3) := dk_180 0 49 (dk_at dksX7_findForce_3 10 rfl rfl)
theorem dX7_findForce_80 : decode cX7_findForce 80 = .ok (.iload_n 2, 1) := dk_28 (dk_at dksX7_findForce_3 13 rfl rfl)
theorem dX7_findForce_81 : decode cX7_findForce 81 = .ok (.baload, 1) := dk_51 (dk_at dksX7_findForce_3 14 rfl rfl)
theorem dX7_findForce_82 : decode cX7_findForce 82 = .ok (.ifCond .eq 81, 3) := dk_153 0 81 (dk_at dksX7_findForce_3 15 rfl rfl)
theorem dX7_findForce_85 : decode cX7_findForce 85 = .ok (.iload_n 2, 1) := dk_28 (dk_at dksX7_findForce_3 18 rfl rfl)
theorem dX7_findForce_86 : decode cX7_findForce 86 = .ok (.iload_n 3, 1) := dk_29 (dk_at dksX7_findForce_3 19 rfl rfl)
theorem dX7_findForce_87 : decode cX7_findForce 87 = .ok (.invokestatic 426, 3) := dk_184 1 170 (dk_at dksX7_findForce_3 20 rfl rfl)
theorem dX7_findForce_90 : decode cX7_findForce 90 = .ok (.istore 4, 2) := dk_54 4 (dk_at dksX7_findForce_4 0 rfl rfl)
theorem dX7_findForce_92 : decode cX7_findForce 92 = .ok (.aload_n 0, 1) := dk_42 (dk_at dksX7_findForce_4 2 rfl rfl)
theorem dX7_findForce_93 : decode cX7_findForce 93 = .ok (.getfield 7, 3) := dk_180 0 7 (dk_at dksX7_findForce_4 3 rfl rfl)
theorem dX7_findForce_96 : decode cX7_findForce 96 = .ok (.iload 4, 2) := dk_21 4 (dk_at dksX7_findForce_4 6 rfl rfl)
theorem dX7_findForce_98 : decode cX7_findForce 98 = .ok (.iaload, 1) := dk_46 (dk_at dksX7_findForce_4 8 rfl rfl)
theorem dX7_findForce_99 : decode cX7_findForce 99 = .ok (.ifCond .ne 58, 3) := dk_154 0 58 (dk_at dksX7_findForce_4 9 rfl rfl)
theorem dX7_findForce_102 : decode cX7_findForce 102 = .ok (.aload_n 0, 1) := dk_42 (dk_at dksX7_findForce_4 12 rfl rfl)
theorem dX7_findForce_103 : decode cX7_findForce 103 = .ok (.getfield 52, 3) := dk_180 0 52 (dk_at dksX7_findForce_4 13 rfl rfl)
theorem dX7_findForce_106 : decode cX7_findForce 106 = .ok (.bipush 12, 2) := dk_16 12 (dk_at dksX7_findForce_4 16 rfl rfl)
theorem dX7_findForce_108 : decode cX7_findForce 108 = .ok (.iload_n 2, 1) := dk_28 (dk_at dksX7_findForce_4 18 rfl rfl)
theorem dX7_findForce_109 : decode cX7_findForce 109 = .ok (.imul, 1) := dk_104 (dk_at dksX7_findForce_4 19 rfl rfl)
theorem dX7_findForce_110 : decode cX7_findForce 110 = .ok (.iload_n 3, 1) := dk_29 (dk_at dksX7_findForce_4 20 rfl rfl)
theorem dX7_findForce_111 : decode cX7_findForce 111 = .ok (.iadd, 1) := dk_96 (dk_at dksX7_findForce_4 21 rfl rfl)
theorem dX7_findForce_112 : decode cX7_findForce 112 = .ok (.baload, 1) := dk_51 (dk_at dksX7_findForce_4 22 rfl rfl)
theorem dX7_findForce_113 : decode cX7_findForce 113 = .ok (.ifCond .ne 44, 3) := dk_154 0 44 (dk_at dksX7_findForce_5 0 rfl rfl)
theorem dX7_findForce_116 : decode cX7_findForce 116 = .ok (.aload_n 0, 1) := dk_42 (dk_at dksX7_findForce_5 3 rfl rfl)
theorem dX7_findForce_117 : decode cX7_findForce 117 = .ok (.getfield 7, 3) := dk_180 0 7 (dk_at dksX7_findForce_5 4 rfl rfl)
theorem dX7_findForce_120 : decode cX7_findForce 120 = .ok (.iload 4, 2) := dk_21 4 (dk_at dksX7_findForce_5 7 rfl rfl)
theorem dX7_findForce_122 : decode cX7_findForce 122 = .ok (.iconst 1, 1) := dk_4 (dk_at dksX7_findForce_5 9 rfl rfl)
theorem dX7_findForce_123 : decode cX7_findForce 123 = .ok (.iadd, 1) := dk_96 (dk_at dksX7_findForce_5 10 rfl rfl)
theorem dX7_findForce_124 : decode cX7_findForce 124 = .ok (.iaload, 1) := dk_46 (dk_at dksX7_findForce_5 11 rfl rfl)
theorem dX7_findForce_125 : decode cX7_findForce 125 = .ok (.iload_n 2, 1) := dk_28 (dk_at dksX7_findForce_5 12 rfl rfl)
theorem dX7_findForce_126 : decode cX7_findForce 126 = .ok (.if_icmp .ge 31, 3) := dk_162 0 31 (dk_at dksX7_findForce_5 13 rfl rfl)
theorem dX7_findForce_129 : decode cX7_findForce 129 = .ok (.aload_n 0, 1) := dk_42 (dk_at dksX7_findForce_5 16 rfl rfl)
theorem dX7_findForce_130 : decode cX7_findForce 130 = .ok (.getfield 52, 3) := dk_180 0 52 (dk_at dksX7_findForce_5 17 rfl rfl)
theorem dX7_findForce_133 : decode cX7_findForce 133 = .ok (.bipush 12, 2) := dk_16 12 (dk_at dksX7_findForce_5 20 rfl rfl)
theorem dX7_findForce_135 : decode cX7_findForce 135 = .ok (.aload_n 0, 1) := dk_42 (dk_at dksX7_findForce_5 22 rfl rfl)
theorem dX7_findForce_136 : decode cX7_findForce 136 = .ok (.getfield 7, 3) := dk_180 0 7 (dk_at dksX7_findForce_6 0 rfl rfl)
theorem dX7_findForce_139 : decode cX7_findForce 139 = .ok (.iload 4, 2) := dk_21 4 (dk_at dksX7_findForce_6 3 rfl rfl)
theorem dX7_findForce_141 : decode cX7_findForce 141 = .ok (.iconst 1, 1) := dk_4 (dk_at dksX7_findForce_6 5 rfl rfl)
theorem dX7_findForce_142 : decode cX7_findForce 142 = .ok (.iadd, 1) := dk_96 (dk_at dksX7_findForce_6 6 rfl rfl)
theorem dX7_findForce_143 : decode cX7_findForce 143 = .ok (.iaload, 1) := dk_46 (dk_at dksX7_findForce_6 7 rfl rfl)
theorem dX7_findForce_144 : decode cX7_findForce 144 = .ok (.imul, 1) := dk_104 (dk_at dksX7_findForce_6 8 rfl rfl)
theorem dX7_findForce_145 : decode cX7_findForce 145 = .ok (.aload_n 0, 1) := dk_42 (dk_at dksX7_findForce_6 9 rfl rfl)
theorem dX7_findForce_146 : decode cX7_findForce 146 = .ok (.getfield 7, 3) := dk_180 0 7 (dk_at dksX7_findForce_6 10 rfl rfl)
theorem dX7_findForce_149 : decode cX7_findForce 149 = .ok (.iload 4, 2) := dk_21 4 (dk_at dksX7_findForce_6 13 rfl rfl)
theorem dX7_findForce_151 : decode cX7_findForce 151 = .ok (.iconst 2, 1) := dk_5 (dk_at dksX7_findForce_6 15 rfl rfl)
theorem dX7_findForce_152 : decode cX7_findForce 152 = .ok (.iadd, 1) := dk_96 (dk_at dksX7_findForce_6 16 rfl rfl)
theorem dX7_findForce_153 : decode cX7_findForce 153 = .ok (.iaload, 1) := dk_46 (dk_at dksX7_findForce_6 17 rfl rfl)
theorem dX7_findForce_154 : decode cX7_findForce 154 = .ok (.iadd, 1) := dk_96 (dk_at dksX7_findForce_6 18 rfl rfl)
theorem dX7_findForce_155 : decode cX7_findForce 155 = .ok (.iconst 1, 1) := dk_4 (dk_at dksX7_findForce_6 19 rfl rfl)
theorem dX7_findForce_156 : decode cX7_findForce 156 = .ok (.bastore, 1) := dk_84 (dk_at dksX7_findForce_6 20 rfl rfl)
theorem dX7_findForce_157 : decode cX7_findForce 157 = .ok (.iinc 3 1, 3) := dk_132 3 1 (dk_at dksX7_findForce_6 21 rfl rfl)
theorem dX7_findForce_160 : decode cX7_findForce 160 = .ok (.goto (-99), 3) := dk_167 255 157 (dk_at dksX7_findForce_7 0 rfl rfl)
theorem dX7_findForce_163 : decode cX7_findForce 163 = .ok (.iinc 2 (-1), 3) := dk_132 2 255 (dk_at dksX7_findForce_7 3 rfl rfl)
theorem dX7_findForce_166 : decode cX7_findForce 166 = .ok (.goto (-135), 3) := dk_167 255 121 (dk_at dksX7_findForce_7 6 rfl rfl)
theorem dX7_findForce_169 : decode cX7_findForce 169 = .ok (.return_, 1) := dk_177 (dk_at dksX7_findForce_7 9 rfl rfl)
def dkwX7_textAt_0 : List UInt8 := [17, 19, 192, 17, 3, 130, 26, 104, 96, 172]
abbrev dktX7_textAt_0 : List UInt8 := dkwX7_textAt_0 ++ []
theorem dksX7_textAt_0 : cX7_textAt.data.toList.drop 0 = dktX7_textAt_0 := by decide +kernel
theorem dX7_textAt_0 : decode cX7_textAt 0 = .ok (.sipush 5056, 3) := dk_17 19 192 (dk_at dksX7_textAt_0 0 rfl rfl)
theorem dX7_textAt_3 : decode cX7_textAt 3 = .ok (.sipush 898, 3) := dk_17 3 130 (dk_at dksX7_textAt_0 3 rfl rfl)
theorem dX7_textAt_6 : decode cX7_textAt 6 = .ok (.iload_n 0, 1) := dk_26 (dk_at dksX7_textAt_0 6 rfl rfl)
theorem dX7_textAt_7 : decode cX7_textAt 7 = .ok (.imul, 1) := dk_104 (dk_at dksX7_textAt_0 7 rfl rfl)
theorem dX7_textAt_8 : decode cX7_textAt 8 = .ok (.iadd, 1) := dk_96 (dk_at dksX7_textAt_0 8 rfl rfl)
theorem dX7_textAt_9 : decode cX7_textAt 9 = .ok (.ireturn, 1) := dk_172 (dk_at dksX7_textAt_0 9 rfl rfl)
def dkwX7_clauseAt_0 : List UInt8 := [26, 184, 1, 167, 5, 96, 16, 8, 27, 104, 96, 172]
abbrev dktX7_clauseAt_0 : List UInt8 := dkwX7_clauseAt_0 ++ []
theorem dksX7_clauseAt_0 : cX7_clauseAt.data.toList.drop 0 = dktX7_clauseAt_0 := by decide +kernel
theorem dX7_clauseAt_0 : decode cX7_clauseAt 0 = .ok (.iload_n 0, 1) := dk_26 (dk_at dksX7_clauseAt_0 0 rfl rfl)
theorem dX7_clauseAt_1 : decode cX7_clauseAt 1 = .ok (.invokestatic 423, 3) := dk_184 1 167 (dk_at dksX7_clauseAt_0 1 rfl rfl)
theorem dX7_clauseAt_4 : decode cX7_clauseAt 4 = .ok (.iconst 2, 1) := dk_5 (dk_at dksX7_clauseAt_0 4 rfl rfl)
theorem dX7_clauseAt_5 : decode cX7_clauseAt 5 = .ok (.iadd, 1) := dk_96 (dk_at dksX7_clauseAt_0 5 rfl rfl)
theorem dX7_clauseAt_6 : decode cX7_clauseAt 6 = .ok (.bipush 8, 2) := dk_16 8 (dk_at dksX7_clauseAt_0 6 rfl rfl)
theorem dX7_clauseAt_8 : decode cX7_clauseAt 8 = .ok (.iload_n 1, 1) := dk_27 (dk_at dksX7_clauseAt_0 8 rfl rfl)
theorem dX7_clauseAt_9 : decode cX7_clauseAt 9 = .ok (.imul, 1) := dk_104 (dk_at dksX7_clauseAt_0 9 rfl rfl)
theorem dX7_clauseAt_10 : decode cX7_clauseAt 10 = .ok (.iadd, 1) := dk_96 (dk_at dksX7_clauseAt_0 10 rfl rfl)
theorem dX7_clauseAt_11 : decode cX7_clauseAt 11 = .ok (.ireturn, 1) := dk_172 (dk_at dksX7_clauseAt_0 11 rfl rfl)
def dkwX7_isOnNow_4 : List UInt8 := [167, 0, 4, 3, 172]
abbrev dktX7_isOnNow_4 : List UInt8 := dkwX7_isOnNow_4 ++ []
def dkwX7_isOnNow_3 : List UInt8 := [27, 182, 0, 191, 42, 4, 2, 182, 0, 195, 153, 0, 16, 42, 5, 2, 182, 0, 195, 154, 0, 7, 4]
abbrev dktX7_isOnNow_3 : List UInt8 := dkwX7_isOnNow_3 ++ dktX7_isOnNow_4
def dkwX7_isOnNow_2 : List UInt8 := [163, 0, 23, 42, 180, 0, 7, 28, 16, 6, 96, 4, 96, 46, 42, 180, 0, 185, 163, 0, 5, 3, 172, 42]
abbrev dktX7_isOnNow_2 : List UInt8 := dkwX7_isOnNow_2 ++ dktX7_isOnNow_3
def dkwX7_isOnNow_1 : List UInt8 := [28, 16, 6, 96, 46, 2, 159, 0, 39, 42, 180, 0, 7, 28, 16, 6, 96, 46, 42, 180, 0, 188]
abbrev dktX7_isOnNow_1 : List UInt8 := dkwX7_isOnNow_1 ++ dktX7_isOnNow_2
def dkwX7_isOnNow_0 : List UInt8 := [27, 184, 0, 148, 61, 42, 180, 0, 7, 28, 8, 96, 46, 42, 180, 0, 185, 163, 0, 50, 42, 180, 0, 7]
abbrev dktX7_isOnNow_0 : List UInt8 := dkwX7_isOnNow_0 ++ dktX7_isOnNow_1
theorem dksX7_isOnNow_0 : cX7_isOnNow.data.toList.drop 0 = dktX7_isOnNow_0 := by decide +kernel
theorem dksX7_isOnNow_1 : cX7_isOnNow.data.toList.drop 24 = dktX7_isOnNow_1 := dk_seg dksX7_isOnNow_0 24 rfl rfl
theorem dksX7_isOnNow_2 : cX7_isOnNow.data.toList.drop 46 = dktX7_isOnNow_2 := dk_seg dksX7_isOnNow_1 22 rfl rfl
theorem dksX7_isOnNow_3 : cX7_isOnNow.data.toList.drop 70 = dktX7_isOnNow_3 := dk_seg dksX7_isOnNow_2 24 rfl rfl
theorem dksX7_isOnNow_4 : cX7_isOnNow.data.toList.drop 93 = dktX7_isOnNow_4 := dk_seg dksX7_isOnNow_3 23 rfl rfl
theorem dX7_isOnNow_0 : decode cX7_isOnNow 0 = .ok (.iload_n 1, 1) := dk_27 (dk_at dksX7_isOnNow_0 0 rfl rfl)
theorem dX7_isOnNow_1 : decode cX7_isOnNow 1 = .ok (.invokestatic 148, 3) := dk_184 0 148 (dk_at dksX7_isOnNow_0 1 rfl rfl)
theorem dX7_isOnNow_4 : decode cX7_isOnNow 4 = .ok (.istore_n 2, 1) := dk_61 (dk_at dksX7_isOnNow_0 4 rfl rfl)
theorem dX7_isOnNow_5 : decode cX7_isOnNow 5 = .ok (.aload_n 0, 1) := dk_42 (dk_at dksX7_isOnNow_0 5 rfl rfl)
theorem dX7_isOnNow_6 : decode cX7_isOnNow 6 = .ok (.getfield 7, 3) := dk_180 0 7 (dk_at dksX7_isOnNow_0 6 rfl rfl)
theorem dX7_isOnNow_9 : decode cX7_isOnNow 9 = .ok (.iload_n 2, 1) := dk_28 (dk_at dksX7_isOnNow_0 9 rfl rfl)
theorem dX7_isOnNow_10 : decode cX7_isOnNow 10 = .ok (.iconst 5, 1) := dk_8 (dk_at dksX7_isOnNow_0 10 rfl rfl)
theorem dX7_isOnNow_11 : decode cX7_isOnNow 11 = .ok (.iadd, 1) := dk_96 (dk_at dksX7_isOnNow_0 11 rfl rfl)
theorem dX7_isOnNow_12 : decode cX7_isOnNow 12 = .ok (.iaload, 1) := dk_46 (dk_at dksX7_isOnNow_0 12 rfl rfl)
theorem dX7_isOnNow_13 : decode cX7_isOnNow 13 = .ok (.aload_n 0, 1) := dk_42 (dk_at dksX7_isOnNow_0 13 rfl rfl)
theorem dX7_isOnNow_14 : decode cX7_isOnNow 14 = .ok (.getfield 185, 3) := dk_180 0 185 (dk_at dksX7_isOnNow_0 14 rfl rfl)
theorem dX7_isOnNow_17 : decode cX7_isOnNow 17 = .ok (.if_icmp .gt 50, 3) := dk_163 0 50 (dk_at dksX7_isOnNow_0 17 rfl rfl)
theorem dX7_isOnNow_20 : decode cX7_isOnNow 20 = .ok (.aload_n 0, 1) := dk_42 (dk_at dksX7_isOnNow_0 20 rfl rfl)
theorem dX7_isOnNow_21 : decode cX7_isOnNow 21 = .ok (.getfield 7, 3) := dk_180 0 7 (dk_at dksX7_isOnNow_0 21 rfl rfl)
theorem dX7_isOnNow_24 : decode cX7_isOnNow 24 = .ok (.iload_n 2, 1) := dk_28 (dk_at dksX7_isOnNow_1 0 rfl rfl)
theorem dX7_isOnNow_25 : decode cX7_isOnNow 25 = .ok (.bipush 6, 2) := dk_16 6 (dk_at dksX7_isOnNow_1 1 rfl rfl)
theorem dX7_isOnNow_27 : decode cX7_isOnNow 27 = .ok (.iadd, 1) := dk_96 (dk_at dksX7_isOnNow_1 3 rfl rfl)
theorem dX7_isOnNow_28 : decode cX7_isOnNow 28 = .ok (.iaload, 1) := dk_46 (dk_at dksX7_isOnNow_1 4 rfl rfl)
theorem dX7_isOnNow_29 : decode cX7_isOnNow 29 = .ok (.iconst (-1), 1) := dk_2 (dk_at dksX7_isOnNow_1 5 rfl rfl)
theorem dX7_isOnNow_30 : decode cX7_isOnNow 30 = .ok (.if_icmp .eq 39, 3) := dk_159 0 39 (dk_at dksX7_isOnNow_1 6 rfl rfl)
theorem dX7_isOnNow_33 : decode cX7_isOnNow 33 = .ok (.aload_n 0, 1) := dk_42 (dk_at dksX7_isOnNow_1 9 rfl rfl)
theorem dX7_isOnNow_34 : decode cX7_isOnNow 34 = .ok (.getfield 7, 3) := dk_180 0 7 (dk_at dksX7_isOnNow_1 10 rfl rfl)
theorem dX7_isOnNow_37 : decode cX7_isOnNow 37 = .ok (.iload_n 2, 1) := dk_28 (dk_at dksX7_isOnNow_1 13 rfl rfl)
theorem dX7_isOnNow_38 : decode cX7_isOnNow 38 = .ok (.bipush 6, 2) := dk_16 6 (dk_at dksX7_isOnNow_1 14 rfl rfl)
theorem dX7_isOnNow_40 : decode cX7_isOnNow 40 = .ok (.iadd, 1) := dk_96 (dk_at dksX7_isOnNow_1 16 rfl rfl)
theorem dX7_isOnNow_41 : decode cX7_isOnNow 41 = .ok (.iaload, 1) := dk_46 (dk_at dksX7_isOnNow_1 17 rfl rfl)
theorem dX7_isOnNow_42 : decode cX7_isOnNow 42 = .ok (.aload_n 0, 1) := dk_42 (dk_at dksX7_isOnNow_1 18 rfl rfl)
theorem dX7_isOnNow_43 : decode cX7_isOnNow 43 = .ok (.getfield 188, 3) := dk_180 0 188 (dk_at dksX7_isOnNow_1 19 rfl rfl)
theorem dX7_isOnNow_46 : decode cX7_isOnNow 46 = .ok (.if_icmp .gt 23, 3) := dk_163 0 23 (dk_at dksX7_isOnNow_2 0 rfl rfl)
theorem dX7_isOnNow_49 : decode cX7_isOnNow 49 = .ok (.aload_n 0, 1) := dk_42 (dk_at dksX7_isOnNow_2 3 rfl rfl)
theorem dX7_isOnNow_50 : decode cX7_isOnNow 50 = .ok (.getfield 7, 3) := dk_180 0 7 (dk_at dksX7_isOnNow_2 4 rfl rfl)
theorem dX7_isOnNow_53 : decode cX7_isOnNow 53 = .ok (.iload_n 2, 1) := dk_28 (dk_at dksX7_isOnNow_2 7 rfl rfl)
theorem dX7_isOnNow_54 : decode cX7_isOnNow 54 = .ok (.bipush 6, 2) := dk_16 6 (dk_at dksX7_isOnNow_2 8 rfl rfl)
theorem dX7_isOnNow_56 : decode cX7_isOnNow 56 = .ok (.iadd, 1) := dk_96 (dk_at dksX7_isOnNow_2 10 rfl rfl)
theorem dX7_isOnNow_57 : decode cX7_isOnNow 57 = .ok (.iconst 1, 1) := dk_4 (dk_at dksX7_isOnNow_2 11 rfl rfl)
theorem dX7_isOnNow_58 : decode cX7_isOnNow 58 = .ok (.iadd, 1) := dk_96 (dk_at dksX7_isOnNow_2 12 rfl rfl)
theorem dX7_isOnNow_59 : decode cX7_isOnNow 59 = .ok (.iaload, 1) := dk_46 (dk_at dksX7_isOnNow_2 13 rfl rfl)
theorem dX7_isOnNow_60 : decode cX7_isOnNow 60 = .ok (.aload_n 0, 1) := dk_42 (dk_at dksX7_isOnNow_2 14 rfl rfl)
theorem dX7_isOnNow_61 : decode cX7_isOnNow 61 = .ok (.getfield 185, 3) := dk_180 0 185 (dk_at dksX7_isOnNow_2 15 rfl rfl)
theorem dX7_isOnNow_64 : decode cX7_isOnNow 64 = .ok (.if_icmp .gt 5, 3) := dk_163 0 5 (dk_at dksX7_isOnNow_2 18 rfl rfl)
theorem dX7_isOnNow_67 : decode cX7_isOnNow 67 = .ok (.iconst 0, 1) := dk_3 (dk_at dksX7_isOnNow_2 21 rfl rfl)
theorem dX7_isOnNow_68 : decode cX7_isOnNow 68 = .ok (.ireturn, 1) := dk_172 (dk_at dksX7_isOnNow_2 22 rfl rfl)
theorem dX7_isOnNow_69 : decode cX7_isOnNow 69 = .ok (.aload_n 0, 1) := dk_42 (dk_at dksX7_isOnNow_2 23 rfl rfl)
theorem dX7_isOnNow_70 : decode cX7_isOnNow 70 = .ok (.iload_n 1, 1) := dk_27 (dk_at dksX7_isOnNow_3 0 rfl rfl)
theorem dX7_isOnNow_71 : decode cX7_isOnNow 71 = .ok (.invokevirtual 191, 3) := dk_182 0 191 (dk_at dksX7_isOnNow_3 1 rfl rfl)
theorem dX7_isOnNow_74 : decode cX7_isOnNow 74 = .ok (.aload_n 0, 1) := dk_42 (dk_at dksX7_isOnNow_3 4 rfl rfl)
theorem dX7_isOnNow_75 : decode cX7_isOnNow 75 = .ok (.iconst 1, 1) := dk_4 (dk_at dksX7_isOnNow_3 5 rfl rfl)
theorem dX7_isOnNow_76 : decode cX7_isOnNow 76 = .ok (.iconst (-1), 1) := dk_2 (dk_at dksX7_isOnNow_3 6 rfl rfl)
theorem dX7_isOnNow_77 : decode cX7_isOnNow 77 = .ok (.invokevirtual 195, 3) := dk_182 0 195 (dk_at dksX7_isOnNow_3 7 rfl rfl)
theorem dX7_isOnNow_80 : decode cX7_isOnNow 80 = .ok (.ifCond .eq 16, 3) := dk_153 0 16 (dk_at dksX7_isOnNow_3 10 rfl rfl)
theorem dX7_isOnNow_83 : decode cX7_isOnNow 83 = .ok (.aload_n 0, 1) := dk_42 (dk_at dksX7_isOnNow_3 13 rfl rfl)
theorem dX7_isOnNow_84 : decode cX7_isOnNow 84 = .ok (.iconst 2, 1) := dk_5 (dk_at dksX7_isOnNow_3 14 rfl rfl)
theorem dX7_isOnNow_85 : decode cX7_isOnNow 85 = .ok (.iconst (-1), 1) := dk_2 (dk_at dksX7_isOnNow_3 15 rfl rfl)
theorem dX7_isOnNow_86 : decode cX7_isOnNow 86 = .ok (.invokevirtual 195, 3) := dk_182 0 195 (dk_at dksX7_isOnNow_3 16 rfl rfl)
theorem dX7_isOnNow_89 : decode cX7_isOnNow 89 = .ok (.ifCond .ne 7, 3) := dk_154 0 7 (dk_at dksX7_isOnNow_3 19 rfl rfl)
theorem dX7_isOnNow_92 : decode cX7_isOnNow 92 = .ok (.iconst 1, 1) := dk_4 (dk_at dksX7_isOnNow_3 22 rfl rfl)
theorem dX7_isOnNow_93 : decode cX7_isOnNow 93 = .ok (.goto 4, 3) := dk_167 0 4 (dk_at dksX7_isOnNow_4 0 rfl rfl)
theorem dX7_isOnNow_96 : decode cX7_isOnNow 96 = .ok (.iconst 0, 1) := dk_3 (dk_at dksX7_isOnNow_4 3 rfl rfl)
theorem dX7_isOnNow_97 : decode cX7_isOnNow 97 = .ok (.ireturn, 1) := dk_172 (dk_at dksX7_isOnNow_4 4 rfl rfl)
def dkwX7_setName_7 : List UInt8 := [42, 180, 0, 185, 182, 0, 177, 153, 0, 7, 10, 167, 0, 4, 9, 80, 177]
abbrev dktX7_setName_7 : List UInt8 := dkwX7_setName_7 ++ []
def dkwX7_setName_6 : List UInt8 := [96, 46, 6, 160, 0, 7, 10, 167, 0, 4, 9, 80, 42, 180, 0, 55, 16, 15, 42, 27, 42, 180, 0, 188]
abbrev dktX7_setName_6 : List UInt8 := dkwX7_setName_6 ++ dktX7_setName_7
def dkwX7_setName_5 : List UInt8 := [96, 46, 5, 160, 0, 7, 10, 167, 0, 4, 9, 80, 42, 180, 0, 55, 16, 14, 42, 180, 0, 7, 28, 6]
abbrev dktX7_setName_5 : List UInt8 := dkwX7_setName_5 ++ dktX7_setName_6
def dkwX7_setName_4 : List UInt8 := [96, 46, 4, 160, 0, 7, 10, 167, 0, 4, 9, 80, 42, 180, 0, 55, 16, 13, 42, 180, 0, 7, 28, 6]
abbrev dktX7_setName_4 : List UInt8 := dkwX7_setName_4 ++ dktX7_setName_5
def dkwX7_setName_3 : List UInt8 := [180, 0, 55, 6, 47, 136, 184, 0, 133, 46, 133, 80, 42, 180, 0, 55, 16, 12, 42, 180, 0, 7, 28, 6]
abbrev dktX7_setName_3 : List UInt8 := dkwX7_setName_3 ++ dktX7_setName_4
def dkwX7_setName_2 : List UInt8 := [180, 0, 188, 42, 180, 0, 185, 182, 0, 181, 133, 80, 42, 180, 0, 55, 7, 42, 180, 0, 7, 42]
abbrev dktX7_setName_2 : List UInt8 := dkwX7_setName_2 ++ dktX7_setName_3
def dkwX7_setName_1 : List UInt8 := [42, 180, 0, 55, 5, 42, 180, 0, 7, 28, 4, 96, 46, 133, 80, 42, 180, 0, 55, 6, 42, 27, 42]
abbrev dktX7_setName_1 : List UInt8 := dkwX7_setName_1 ++ dktX7_setName_2
def dkwX7_setName_0 : List UInt8 := [27, 184, 0, 148, 61, 42, 182, 1, 173, 42, 180, 0, 55, 4, 42, 180, 0, 7, 28, 5, 96, 46, 133, 80]
abbrev dktX7_setName_0 : List UInt8 := dkwX7_setName_0 ++ dktX7_setName_1
theorem dksX7_setName_0 : cX7_setName.data.toList.drop 0 = dktX7_setName_0 := by decide +kernel
theorem dksX7_setName_1 : cX7_setName.data.toList.drop 24 = dktX7_setName_1 := dk_seg dksX7_setName_0 24 rfl rfl
theorem dksX7_setName_2 : cX7_setName.data.toList.drop 47 = dktX7_setName_2 := dk_seg dksX7_setName_1 23 rfl rfl
theorem dksX7_setName_3 : cX7_setName.data.toList.drop 69 = dktX7_setName_3 := dk_seg dksX7_setName_2 22 rfl rfl
theorem dksX7_setName_4 : cX7_setName.data.toList.drop 93 = dktX7_setName_4 := dk_seg dksX7_setName_3 24 rfl rfl
theorem dksX7_setName_5 : cX7_setName.data.toList.drop 117 = dktX7_setName_5 := dk_seg dksX7_setName_4 24 rfl rfl
theorem dksX7_setName_6 : cX7_setName.data.toList.drop 141 = dktX7_setName_6 := dk_seg dksX7_setName_5 24 rfl rfl
theorem dksX7_setName_7 : cX7_setName.data.toList.drop 165 = dktX7_setName_7 := dk_seg dksX7_setName_6 24 rfl rfl
theorem dX7_setName_0 : decode cX7_setName 0 = .ok (.iload_n 1, 1) := dk_27 (dk_at dksX7_setName_0 0 rfl rfl)
theorem dX7_setName_1 : decode cX7_setName 1 = .ok (.invokestatic 148, 3) := dk_184 0 148 (dk_at dksX7_setName_0 1 rfl rfl)
theorem dX7_setName_4 : decode cX7_setName 4 = .ok (.istore_n 2, 1) := dk_61 (dk_at dksX7_setName_0 4 rfl rfl)
theorem dX7_setName_5 : decode cX7_setName 5 = .ok (.aload_n 0, 1) := dk_42 (dk_at dksX7_setName_0 5 rfl rfl)
theorem dX7_setName_6 : decode cX7_setName 6 = .ok (.invokevirtual 429, 3) := dk_182 1 173 (dk_at dksX7_setName_0 6 rfl rfl)
theorem dX7_setName_9 : decode cX7_setName 9 = .ok (.aload_n 0, 1) := dk_42 (dk_at dksX7_setName_0 9 rfl rfl)
theorem dX7_setName_10 : decode cX7_setName 10 = .ok (.getfield 55, 3) := dk_180 0 55 (dk_at dksX7_setName_0 10 rfl rfl)
theorem dX7_setName_13 : decode cX7_setName 13 = .ok (.iconst 1, 1) := dk_4 (dk_at dksX7_setName_0 13 rfl rfl)
theorem dX7_setName_14 : decode cX7_setName 14 = .ok (.aload_n 0, 1) := dk_42 (dk_at dksX7_setName_0 14 rfl rfl)
theorem dX7_setName_15 : decode cX7_setName 15 = .ok (.getfield 7, 3) := dk_180 0 7 (dk_at dksX7_setName_0 15 rfl rfl)
theorem dX7_setName_18 : decode cX7_setName 18 = .ok (.iload_n 2, 1) := dk_28 (dk_at dksX7_setName_0 18 rfl rfl)
theorem dX7_setName_19 : decode cX7_setName 19 = .ok (.iconst 2, 1) := dk_5 (dk_at dksX7_setName_0 19 rfl rfl)
theorem dX7_setName_20 : decode cX7_setName 20 = .ok (.iadd, 1) := dk_96 (dk_at dksX7_setName_0 20 rfl rfl)
theorem dX7_setName_21 : decode cX7_setName 21 = .ok (.iaload, 1) := dk_46 (dk_at dksX7_setName_0 21 rfl rfl)
theorem dX7_setName_22 : decode cX7_setName 22 = .ok (.i2l, 1) := dk_133 (dk_at dksX7_setName_0 22 rfl rfl)
theorem dX7_setName_23 : decode cX7_setName 23 = .ok (.lastore, 1) := dk_80 (dk_at dksX7_setName_0 23 rfl rfl)
theorem dX7_setName_24 : decode cX7_setName 24 = .ok (.aload_n 0, 1) := dk_42 (dk_at dksX7_setName_1 0 rfl rfl)
theorem dX7_setName_25 : decode cX7_setName 25 = .ok (.getfield 55, 3) := dk_180 0 55 (dk_at dksX7_setName_1 1 rfl rfl)
theorem dX7_setName_28 : decode cX7_setName 28 = .ok (.iconst 2, 1) := dk_5 (dk_at dksX7_setName_1 4 rfl rfl)
theorem dX7_setName_29 : decode cX7_setName 29 = .ok (.aload_n 0, 1) := dk_42 (dk_at dksX7_setName_1 5 rfl rfl)
theorem dX7_setName_30 : decode cX7_setName 30 = .ok (.getfield 7, 3) := dk_180 0 7 (dk_at dksX7_setName_1 6 rfl rfl)
theorem dX7_setName_33 : decode cX7_setName 33 = .ok (.iload_n 2, 1) := dk_28 (dk_at dksX7_setName_1 9 rfl rfl)
theorem dX7_setName_34 : decode cX7_setName 34 = .ok (.iconst 1, 1) := dk_4 (dk_at dksX7_setName_1 10 rfl rfl)
theorem dX7_setName_35 : decode cX7_setName 35 = .ok (.iadd, 1) := dk_96 (dk_at dksX7_setName_1 11 rfl rfl)
theorem dX7_setName_36 : decode cX7_setName 36 = .ok (.iaload, 1) := dk_46 (dk_at dksX7_setName_1 12 rfl rfl)
theorem dX7_setName_37 : decode cX7_setName 37 = .ok (.i2l, 1) := dk_133 (dk_at dksX7_setName_1 13 rfl rfl)
theorem dX7_setName_38 : decode cX7_setName 38 = .ok (.lastore, 1) := dk_80 (dk_at dksX7_setName_1 14 rfl rfl)
theorem dX7_setName_39 : decode cX7_setName 39 = .ok (.aload_n 0, 1) := dk_42 (dk_at dksX7_setName_1 15 rfl rfl)
theorem dX7_setName_40 : decode cX7_setName 40 = .ok (.getfield 55, 3) := dk_180 0 55 (dk_at dksX7_setName_1 16 rfl rfl)
theorem dX7_setName_43 : decode cX7_setName 43 = .ok (.iconst 3, 1) := dk_6 (dk_at dksX7_setName_1 19 rfl rfl)
theorem dX7_setName_44 : decode cX7_setName 44 = .ok (.aload_n 0, 1) := dk_42 (dk_at dksX7_setName_1 20 rfl rfl)
theorem dX7_setName_45 : decode cX7_setName 45 = .ok (.iload_n 1, 1) := dk_27 (dk_at dksX7_setName_1 21 rfl rfl)
theorem dX7_setName_46 : decode cX7_setName 46 = .ok (.aload_n 0, 1) := dk_42 (dk_at dksX7_setName_1 22 rfl rfl)
theorem dX7_setName_47 : decode cX7_setName 47 = .ok (.getfield 188, 3) := dk_180 0 188 (dk_at dksX7_setName_2 0 rfl rfl)
theorem dX7_setName_50 : decode cX7_setName 50 = .ok (.aload_n 0, 1) := dk_42 (dk_at dksX7_setName_2 3 rfl rfl)
theorem dX7_setName_51 : decode cX7_setName 51 = .ok (.getfield 185, 3) := dk_180 0 185 (dk_at dksX7_setName_2 4 rfl rfl)
theorem dX7_setName_54 : decode cX7_setName 54 = .ok (.invokevirtual 181, 3) := dk_182 0 181 (dk_at dksX7_setName_2 7 rfl rfl)
theorem dX7_setName_57 : decode cX7_setName 57 = .ok (.i2l, 1) := dk_133 (dk_at dksX7_setName_2 10 rfl rfl)
theorem dX7_setName_58 : decode cX7_setName 58 = .ok (.lastore, 1) := dk_80 (dk_at dksX7_setName_2 11 rfl rfl)
theorem dX7_setName_59 : decode cX7_setName 59 = .ok (.aload_n 0, 1) := dk_42 (dk_at dksX7_setName_2 12 rfl rfl)
theorem dX7_setName_60 : decode cX7_setName 60 = .ok (.getfield 55, 3) := dk_180 0 55 (dk_at dksX7_setName_2 13 rfl rfl)
theorem dX7_setName_63 : decode cX7_setName 63 = .ok (.iconst 4, 1) := dk_7 (dk_at dksX7_setName_2 16 rfl rfl)
theorem dX7_setName_64 : decode cX7_setName 64 = .ok (.aload_n 0, 1) := dk_42 (dk_at dksX7_setName_2 17 rfl rfl)
theorem dX7_setName_65 : decode cX7_setName 65 = .ok (.getfield 7, 3) := dk_180 0 7 (dk_at dksX7_setName_2 18 rfl rfl)
theorem dX7_setName_68 : decode cX7_setName 68 = .ok (.aload_n 0, 1) := dk_42 (dk_at dksX7_setName_2 21 rfl rfl)
theorem dX7_setName_69 : decode cX7_setName 69 = .ok (.getfield 55, 3) := dk_180 0 55 (dk_at dksX7_setName_3 0 rfl rfl)
theorem dX7_setName_72 : decode cX7_setName 72 = .ok (.iconst 3, 1) := dk_6 (dk_at dksX7_setName_3 3 rfl rfl)
theorem dX7_setName_73 : decode cX7_setName 73 = .ok (.laload, 1) := dk_47 (dk_at dksX7_setName_3 4 rfl rfl)
theorem dX7_setName_74 : decode cX7_setName 74 = .ok (.l2i, 1) := dk_136 (dk_at dksX7_setName_3 5 rfl rfl)
theorem dX7_setName_75 : decode cX7_setName 75 = .ok (.invokestatic 133, 3) := dk_184 0 133 (dk_at dksX7_setName_3 6 rfl rfl)
theorem dX7_setName_78 : decode cX7_setName 78 = .ok (.iaload, 1) := dk_46 (dk_at dksX7_setName_3 9 rfl rfl)
theorem dX7_setName_79 : decode cX7_setName 79 = .ok (.i2l, 1) := dk_133 (dk_at dksX7_setName_3 10 rfl rfl)
theorem dX7_setName_80 : decode cX7_setName 80 = .ok (.lastore, 1) := dk_80 (dk_at dksX7_setName_3 11 rfl rfl)
theorem dX7_setName_81 : decode cX7_setName 81 = .ok (.aload_n 0, 1) := dk_42 (dk_at dksX7_setName_3 12 rfl rfl)
theorem dX7_setName_82 : decode cX7_setName 82 = .ok (.getfield 55, 3) := dk_180 0 55 (dk_at dksX7_setName_3 13 rfl rfl)
theorem dX7_setName_85 : decode cX7_setName 85 = .ok (.bipush 12, 2) := dk_16 12 (dk_at dksX7_setName_3 16 rfl rfl)
theorem dX7_setName_87 : decode cX7_setName 87 = .ok (.aload_n 0, 1) := dk_42 (dk_at dksX7_setName_3 18 rfl rfl)
theorem dX7_setName_88 : decode cX7_setName 88 = .ok (.getfield 7, 3) := dk_180 0 7 (dk_at dksX7_setName_3 19 rfl rfl)
theorem dX7_setName_91 : decode cX7_setName 91 = .ok (.iload_n 2, 1) := dk_28 (dk_at dksX7_setName_3 22 rfl rfl)
theorem dX7_setName_92 : decode cX7_setName 92 = .ok (.iconst 3, 1) := dk_6 (dk_at dksX7_setName_3 23 rfl rfl)
theorem dX7_setName_93 : decode cX7_setName 93 = .ok (.iadd, 1) := dk_96 (dk_at dksX7_setName_4 0 rfl rfl)
theorem dX7_setName_94 : decode cX7_setName 94 = .ok (.iaload, 1) := dk_46 (dk_at dksX7_setName_4 1 rfl rfl)
theorem dX7_setName_95 : decode cX7_setName 95 = .ok (.iconst 1, 1) := dk_4 (dk_at dksX7_setName_4 2 rfl rfl)
theorem dX7_setName_96 : decode cX7_setName 96 = .ok (.if_icmp .ne 7, 3) := dk_160 0 7 (dk_at dksX7_setName_4 3 rfl rfl)
theorem dX7_setName_99 : decode cX7_setName 99 = .ok (.lconst 1, 1) := dk_10 (dk_at dksX7_setName_4 6 rfl rfl)
theorem dX7_setName_100 : decode cX7_setName 100 = .ok (.goto 4, 3) := dk_167 0 4 (dk_at dksX7_setName_4 7 rfl rfl)
theorem dX7_setName_103 : decode cX7_setName 103 = .ok (.lconst 0, 1) := dk_9 (dk_at dksX7_setName_4 10 rfl rfl)
theorem dX7_setName_104 : decode cX7_setName 104 = .ok (.lastore, 1) := dk_80 (dk_at dksX7_setName_4 11 rfl rfl)
theorem dX7_setName_105 : decode cX7_setName 105 = .ok (.aload_n 0, 1) := dk_42 (dk_at dksX7_setName_4 12 rfl rfl)
theorem dX7_setName_106 : decode cX7_setName 106 = .ok (.getfield 55, 3) := dk_180 0 55 (dk_at dksX7_setName_4 13 rfl rfl)
theorem dX7_setName_109 : decode cX7_setName 109 = .ok (.bipush 13, 2) := dk_16 13 (dk_at dksX7_setName_4 16 rfl rfl)
theorem dX7_setName_111 : decode cX7_setName 111 = .ok (.aload_n 0, 1) := dk_42 (dk_at dksX7_setName_4 18 rfl rfl)
theorem dX7_setName_112 : decode cX7_setName 112 = .ok (.getfield 7, 3) := dk_180 0 7 (dk_at dksX7_setName_4 19 rfl rfl)
theorem dX7_setName_115 : decode cX7_setName 115 = .ok (.iload_n 2, 1) := dk_28 (dk_at dksX7_setName_4 22 rfl rfl)
theorem dX7_setName_116 : decode cX7_setName 116 = .ok (.iconst 3, 1) := dk_6 (dk_at dksX7_setName_4 23 rfl rfl)
theorem dX7_setName_117 : decode cX7_setName 117 = .ok (.iadd, 1) := dk_96 (dk_at dksX7_setName_5 0 rfl rfl)
theorem dX7_setName_118 : decode cX7_setName 118 = .ok (.iaload, 1) := dk_46 (dk_at dksX7_setName_5 1 rfl rfl)
theorem dX7_setName_119 : decode cX7_setName 119 = .ok (.iconst 2, 1) := dk_5 (dk_at dksX7_setName_5 2 rfl rfl)
theorem dX7_setName_120 : decode cX7_setName 120 = .ok (.if_icmp .ne 7, 3) := dk_160 0 7 (dk_at dksX7_setName_5 3 rfl rfl)
theorem dX7_setName_123 : decode cX7_setName 123 = .ok (.lconst 1, 1) := dk_10 (dk_at dksX7_setName_5 6 rfl rfl)
theorem dX7_setName_124 : decode cX7_setName 124 = .ok (.goto 4, 3) := dk_167 0 4 (dk_at dksX7_setName_5 7 rfl rfl)
theorem dX7_setName_127 : decode cX7_setName 127 = .ok (.lconst 0, 1) := dk_9 (dk_at dksX7_setName_5 10 rfl rfl)
theorem dX7_setName_128 : decode cX7_setName 128 = .ok (.lastore, 1) := dk_80 (dk_at dksX7_setName_5 11 rfl rfl)
theorem dX7_setName_129 : decode cX7_setName 129 = .ok (.aload_n 0, 1) := dk_42 (dk_at dksX7_setName_5 12 rfl rfl)
theorem dX7_setName_130 : decode cX7_setName 130 = .ok (.getfield 55, 3) := dk_180 0 55 (dk_at dksX7_setName_5 13 rfl rfl)
theorem dX7_setName_133 : decode cX7_setName 133 = .ok (.bipush 14, 2) := dk_16 14 (dk_at dksX7_setName_5 16 rfl rfl)
theorem dX7_setName_135 : decode cX7_setName 135 = .ok (.aload_n 0, 1) := dk_42 (dk_at dksX7_setName_5 18 rfl rfl)
theorem dX7_setName_136 : decode cX7_setName 136 = .ok (.getfield 7, 3) := dk_180 0 7 (dk_at dksX7_setName_5 19 rfl rfl)
theorem dX7_setName_139 : decode cX7_setName 139 = .ok (.iload_n 2, 1) := dk_28 (dk_at dksX7_setName_5 22 rfl rfl)
theorem dX7_setName_140 : decode cX7_setName 140 = .ok (.iconst 3, 1) := dk_6 (dk_at dksX7_setName_5 23 rfl rfl)
theorem dX7_setName_141 : decode cX7_setName 141 = .ok (.iadd, 1) := dk_96 (dk_at dksX7_setName_6 0 rfl rfl)
theorem dX7_setName_142 : decode cX7_setName 142 = .ok (.iaload, 1) := dk_46 (dk_at dksX7_setName_6 1 rfl rfl)
theorem dX7_setName_143 : decode cX7_setName 143 = .ok (.iconst 3, 1) := dk_6 (dk_at dksX7_setName_6 2 rfl rfl)
theorem dX7_setName_144 : decode cX7_setName 144 = .ok (.if_icmp .ne 7, 3) := dk_160 0 7 (dk_at dksX7_setName_6 3 rfl rfl)
theorem dX7_setName_147 : decode cX7_setName 147 = .ok (.lconst 1, 1) := dk_10 (dk_at dksX7_setName_6 6 rfl rfl)
theorem dX7_setName_148 : decode cX7_setName 148 = .ok (.goto 4, 3) := dk_167 0 4 (dk_at dksX7_setName_6 7 rfl rfl)
theorem dX7_setName_151 : decode cX7_setName 151 = .ok (.lconst 0, 1) := dk_9 (dk_at dksX7_setName_6 10 rfl rfl)
theorem dX7_setName_152 : decode cX7_setName 152 = .ok (.lastore, 1) := dk_80 (dk_at dksX7_setName_6 11 rfl rfl)
theorem dX7_setName_153 : decode cX7_setName 153 = .ok (.aload_n 0, 1) := dk_42 (dk_at dksX7_setName_6 12 rfl rfl)
theorem dX7_setName_154 : decode cX7_setName 154 = .ok (.getfield 55, 3) := dk_180 0 55 (dk_at dksX7_setName_6 13 rfl rfl)
theorem dX7_setName_157 : decode cX7_setName 157 = .ok (.bipush 15, 2) := dk_16 15 (dk_at dksX7_setName_6 16 rfl rfl)
theorem dX7_setName_159 : decode cX7_setName 159 = .ok (.aload_n 0, 1) := dk_42 (dk_at dksX7_setName_6 18 rfl rfl)
theorem dX7_setName_160 : decode cX7_setName 160 = .ok (.iload_n 1, 1) := dk_27 (dk_at dksX7_setName_6 19 rfl rfl)
theorem dX7_setName_161 : decode cX7_setName 161 = .ok (.aload_n 0, 1) := dk_42 (dk_at dksX7_setName_6 20 rfl rfl)
theorem dX7_setName_162 : decode cX7_setName 162 = .ok (.getfield 188, 3) := dk_180 0 188 (dk_at dksX7_setName_6 21 rfl rfl)
theorem dX7_setName_165 : decode cX7_setName 165 = .ok (.aload_n 0, 1) := dk_42 (dk_at dksX7_setName_7 0 rfl rfl)
theorem dX7_setName_166 : decode cX7_setName 166 = .ok (.getfield 185, 3) := dk_180 0 185 (dk_at dksX7_setName_7 1 rfl rfl)
theorem dX7_setName_169 : decode cX7_setName 169 = .ok (.invokevirtual 177, 3) := dk_182 0 177 (dk_at dksX7_setName_7 4 rfl rfl)
theorem dX7_setName_172 : decode cX7_setName 172 = .ok (.ifCond .eq 7, 3) := dk_153 0 7 (dk_at dksX7_setName_7 7 rfl rfl)
theorem dX7_setName_175 : decode cX7_setName 175 = .ok (.lconst 1, 1) := dk_10 (dk_at dksX7_setName_7 10 rfl rfl)
theorem dX7_setName_176 : decode cX7_setName 176 = .ok (.goto 4, 3) := dk_167 0 4 (dk_at dksX7_setName_7 11 rfl rfl)
theorem dX7_setName_179 : decode cX7_setName 179 = .ok (.lconst 0, 1) := dk_9 (dk_at dksX7_setName_7 14 rfl rfl)
theorem dX7_setName_180 : decode cX7_setName 180 = .ok (.lastore, 1) := dk_80 (dk_at dksX7_setName_7 15 rfl rfl)
theorem dX7_setName_181 : decode cX7_setName 181 = .ok (.return_, 1) := dk_177 (dk_at dksX7_setName_7 16 rfl rfl)
def dkwX7_setNothing_1 : List UInt8 := [180, 0, 55, 8, 42, 180, 0, 188, 133, 80, 177]
abbrev dktX7_setNothing_1 : List UInt8 := dkwX7_setNothing_1 ++ []
def dkwX7_setNothing_0 : List UInt8 := [3, 60, 27, 16, 17, 162, 0, 16, 42, 180, 0, 55, 27, 9, 80, 132, 1, 1, 167, 255, 240, 42]
abbrev dktX7_setNothing_0 : List UInt8 := dkwX7_setNothing_0 ++ dktX7_setNothing_1
theorem dksX7_setNothing_0 : cX7_setNothing.data.toList.drop 0 = dktX7_setNothing_0 := by decide +kernel
theorem dksX7_setNothing_1 : cX7_setNothing.data.toList.drop 22 = dktX7_setNothing_1 := dk_seg dksX7_setNothing_0 22 rfl rfl
theorem dX7_setNothing_0 : decode cX7_setNothing 0 = .ok (.iconst 0, 1) := dk_3 (dk_at dksX7_setNothing_0 0 rfl rfl)
theorem dX7_setNothing_1 : decode cX7_setNothing 1 = .ok (.istore_n 1, 1) := dk_60 (dk_at dksX7_setNothing_0 1 rfl rfl)
theorem dX7_setNothing_2 : decode cX7_setNothing 2 = .ok (.iload_n 1, 1) := dk_27 (dk_at dksX7_setNothing_0 2 rfl rfl)
theorem dX7_setNothing_3 : decode cX7_setNothing 3 = .ok (.bipush 17, 2) := dk_16 17 (dk_at dksX7_setNothing_0 3 rfl rfl)
theorem dX7_setNothing_5 : decode cX7_setNothing 5 = .ok (.if_icmp .ge 16, 3) := dk_162 0 16 (dk_at dksX7_setNothing_0 5 rfl rfl)
theorem dX7_setNothing_8 : decode cX7_setNothing 8 = .ok (.aload_n 0, 1) := dk_42 (dk_at dksX7_setNothing_0 8 rfl rfl)
theorem dX7_setNothing_9 : decode cX7_setNothing 9 = .ok (.getfield 55, 3) := dk_180 0 55 (dk_at dksX7_setNothing_0 9 rfl rfl)
theorem dX7_setNothing_12 : decode cX7_setNothing 12 = .ok (.iload_n 1, 1) := dk_27 (dk_at dksX7_setNothing_0 12 rfl rfl)
theorem dX7_setNothing_13 : decode cX7_setNothing 13 = .ok (.lconst 0, 1) := dk_9 (dk_at dksX7_setNothing_0 13 rfl rfl)
theorem dX7_setNothing_14 : decode cX7_setNothing 14 = .ok (.lastore, 1) := dk_80 (dk_at dksX7_setNothing_0 14 rfl rfl)
theorem dX7_setNothing_15 : decode cX7_setNothing 15 = .ok (.iinc 1 1, 3) := dk_132 1 1 (dk_at dksX7_setNothing_0 15 rfl rfl)
theorem dX7_setNothing_18 : decode cX7_setNothing 18 = .ok (.goto (-16), 3) := dk_167 255 240 (dk_at dksX7_setNothing_0 18 rfl rfl)
theorem dX7_setNothing_21 : decode cX7_setNothing 21 = .ok (.aload_n 0, 1) := dk_42 (dk_at dksX7_setNothing_0 21 rfl rfl)
theorem dX7_setNothing_22 : decode cX7_setNothing 22 = .ok (.getfield 55, 3) := dk_180 0 55 (dk_at dksX7_setNothing_1 0 rfl rfl)
theorem dX7_setNothing_25 : decode cX7_setNothing 25 = .ok (.iconst 5, 1) := dk_8 (dk_at dksX7_setNothing_1 3 rfl rfl)
theorem dX7_setNothing_26 : decode cX7_setNothing 26 = .ok (.aload_n 0, 1) := dk_42 (dk_at dksX7_setNothing_1 4 rfl rfl)
theorem dX7_setNothing_27 : decode cX7_setNothing 27 = .ok (.getfield 188, 3) := dk_180 0 188 (dk_at dksX7_setNothing_1 5 rfl rfl)
theorem dX7_setNothing_30 : decode cX7_setNothing 30 = .ok (.i2l, 1) := dk_133 (dk_at dksX7_setNothing_1 8 rfl rfl)
theorem dX7_setNothing_31 : decode cX7_setNothing 31 = .ok (.lastore, 1) := dk_80 (dk_at dksX7_setNothing_1 9 rfl rfl)
theorem dX7_setNothing_32 : decode cX7_setNothing 32 = .ok (.return_, 1) := dk_177 (dk_at dksX7_setNothing_1 10 rfl rfl)
def dkwX7_find_6 : List UInt8 := [132, 6, 1, 167, 255, 121, 42, 22, 4, 181, 1, 206, 29, 172]
abbrev dktX7_find_6 : List UInt8 := dkwX7_find_6 ++ []
def dkwX7_find_5 : List UInt8 := [21, 6, 21, 8, 182, 1, 209, 153, 0, 11, 4, 62, 42, 180, 1, 206, 55, 4, 132, 7, 1, 167, 255, 141]
abbrev dktX7_find_5 : List UInt8 := dkwX7_find_5 ++ dktX7_find_6
def dkwX7_find_4 : List UInt8 := [21, 6, 104, 21, 7, 96, 51, 154, 0, 7, 4, 167, 0, 4, 3, 54, 9, 21, 9, 153, 0, 22, 42]
abbrev dktX7_find_4 : List UInt8 := dkwX7_find_4 ++ dktX7_find_5
def dkwX7_find_3 : List UInt8 := [2, 159, 0, 16, 42, 180, 0, 7, 21, 8, 4, 96, 46, 28, 160, 0, 23, 42, 180, 0, 52, 16, 12]
abbrev dktX7_find_3 : List UInt8 := dkwX7_find_3 ++ dktX7_find_4
def dkwX7_find_2 : List UInt8 := [153, 0, 94, 21, 6, 21, 7, 184, 1, 170, 54, 8, 42, 180, 0, 7, 21, 8, 46, 27, 160, 0, 41, 28]
abbrev dktX7_find_2 : List UInt8 := dkwX7_find_2 ++ dktX7_find_3
def dkwX7_find_1 : List UInt8 := [42, 180, 0, 7, 21, 6, 184, 1, 167, 4, 96, 46, 162, 0, 104, 42, 180, 0, 49, 21, 6, 51]
abbrev dktX7_find_1 : List UInt8 := dkwX7_find_1 ++ dktX7_find_2
def dkwX7_find_0 : List UInt8 := [3, 62, 9, 55, 4, 3, 54, 6, 21, 6, 42, 180, 0, 7, 5, 46, 162, 0, 130, 3, 54, 7, 21, 7]
abbrev dktX7_find_0 : List UInt8 := dkwX7_find_0 ++ dktX7_find_1
theorem dksX7_find_0 : cX7_find.data.toList.drop 0 = dktX7_find_0 := by decide +kernel
theorem dksX7_find_1 : cX7_find.data.toList.drop 24 = dktX7_find_1 := dk_seg dksX7_find_0 24 rfl rfl
theorem dksX7_find_2 : cX7_find.data.toList.drop 46 = dktX7_find_2 := dk_seg dksX7_find_1 22 rfl rfl
theorem dksX7_find_3 : cX7_find.data.toList.drop 70 = dktX7_find_3 := dk_seg dksX7_find_2 24 rfl rfl
theorem dksX7_find_4 : cX7_find.data.toList.drop 93 = dktX7_find_4 := dk_seg dksX7_find_3 23 rfl rfl
theorem dksX7_find_5 : cX7_find.data.toList.drop 116 = dktX7_find_5 := dk_seg dksX7_find_4 23 rfl rfl
theorem dksX7_find_6 : cX7_find.data.toList.drop 140 = dktX7_find_6 := dk_seg dksX7_find_5 24 rfl rfl
theorem dX7_find_0 : decode cX7_find 0 = .ok (.iconst 0, 1) := dk_3 (dk_at dksX7_find_0 0 rfl rfl)
theorem dX7_find_1 : decode cX7_find 1 = .ok (.istore_n 3, 1) := dk_62 (dk_at dksX7_find_0 1 rfl rfl)
theorem dX7_find_2 : decode cX7_find 2 = .ok (.lconst 0, 1) := dk_9 (dk_at dksX7_find_0 2 rfl rfl)
theorem dX7_find_3 : decode cX7_find 3 = .ok (.lstore 4, 2) := dk_55 4 (dk_at dksX7_find_0 3 rfl rfl)
theorem dX7_find_5 : decode cX7_find 5 = .ok (.iconst 0, 1) := dk_3 (dk_at dksX7_find_0 5 rfl rfl)
theorem dX7_find_6 : decode cX7_find 6 = .ok (.istore 6, 2) := dk_54 6 (dk_at dksX7_find_0 6 rfl rfl)
theorem dX7_find_8 : decode cX7_find 8 = .ok (.iload 6, 2) := dk_21 6 (dk_at dksX7_find_0 8 rfl rfl)
theorem dX7_find_10 : decode cX7_find 10 = .ok (.aload_n 0, 1) := dk_42 (dk_at dksX7_find_0 10 rfl rfl)
theorem dX7_find_11 : decode cX7_find 11 = .ok (.getfield 7, 3) := dk_180 0 7 (dk_at dksX7_find_0 11 rfl rfl)
theorem dX7_find_14 : decode cX7_find 14 = .ok (.iconst 2, 1) := dk_5 (dk_at dksX7_find_0 14 rfl rfl)
theorem dX7_find_15 : decode cX7_find 15 = .ok (.iaload, 1) := dk_46 (dk_at dksX7_find_0 15 rfl rfl)
theorem dX7_find_16 : decode cX7_find 16 = .ok (.if_icmp .ge 130, 3) := dk_162 0 130 (dk_at dksX7_find_0 16 rfl rfl)
theorem dX7_find_19 : decode cX7_find 19 = .ok (.iconst 0, 1) := dk_3 (dk_at dksX7_find_0 19 rfl rfl)
theorem dX7_find_20 : decode cX7_find 20 = .ok (.istore 7, 2) := dk_54 7 (dk_at dksX7_find_0 20 rfl rfl)
theorem dX7_find_22 : decode cX7_find 22 = .ok (.iload 7, 2) := dk_21 7 (dk_at dksX7_find_0 22 rfl rfl)
theorem dX7_find_24 : decode cX7_find 24 = .ok (.aload_n 0, 1) := dk_42 (dk_at dksX7_find_1 0 rfl rfl)
theorem dX7_find_25 : decode cX7_find 25 = .ok (.getfield 7, 3) := dk_180 0 7 (dk_at dksX7_find_1 1 rfl rfl)
theorem dX7_find_28 : decode cX7_find 28 = .ok (.iload 6, 2) := dk_21 6 (dk_at dksX7_find_1 4 rfl rfl)
theorem dX7_find_30 : decode cX7_find 30 = .ok (.invokestatic 423, 3) := dk_184 1 167 (dk_at dksX7_find_1 6 rfl rfl)
theorem dX7_find_33 : decode cX7_find 33 = .ok (.iconst 1, 1) := dk_4 (dk_at dksX7_find_1 9 rfl rfl)
theorem dX7_find_34 : decode cX7_find 34 = .ok (.iadd, 1) := dk_96 (dk_at dksX7_find_1 10 rfl rfl)
theorem dX7_find_35 : decode cX7_find 35 = .ok (.iaload, 1) := dk_46 (dk_at dksX7_find_1 11 rfl rfl)
theorem dX7_find_36 : decode cX7_find 36 = .ok (.if_icmp .ge 104, 3) := dk_162 0 104 (dk_at dksX7_find_1 12 rfl rfl)
theorem dX7_find_39 : decode cX7_find 39 = .ok (.aload_n 0, 1) := dk_42 (dk_at dksX7_find_1 15 rfl rfl)
theorem dX7_find_40 : decode cX7_find 40 = .ok (.getfield 49, 3) := dk_180 0 49 (dk_at dksX7_find_1 16 rfl rfl)
theorem dX7_find_43 : decode cX7_find 43 = .ok (.iload 6, 2) := dk_21 6 (dk_at dksX7_find_1 19 rfl rfl)
theorem dX7_find_45 : decode cX7_find 45 = .ok (.baload, 1) := dk_51 (dk_at dksX7_find_1 21 rfl rfl)
theorem dX7_find_46 : decode cX7_find 46 = .ok (.ifCond .eq 94, 3) := dk_153 0 94 (dk_at dksX7_find_2 0 rfl rfl)
theorem dX7_find_49 : decode cX7_find 49 = .ok (.iload 6, 2) := dk_21 6 (dk_at dksX7_find_2 3 rfl rfl)
theorem dX7_find_51 : decode cX7_find 51 = .ok (.iload 7, 2) := dk_21 7 (dk_at dksX7_find_2 5 rfl rfl)
theorem dX7_find_53 : decode cX7_find 53 = .ok (.invokestatic 426, 3) := dk_184 1 170 (dk_at dksX7_find_2 7 rfl rfl)
theorem dX7_find_56 : decode cX7_find 56 = .ok (.istore 8, 2) := dk_54 8 (dk_at dksX7_find_2 10 rfl rfl)
theorem dX7_find_58 : decode cX7_find 58 = .ok (.aload_n 0, 1) := dk_42 (dk_at dksX7_find_2 12 rfl rfl)
theorem dX7_find_59 : decode cX7_find 59 = .ok (.getfield 7, 3) := dk_180 0 7 (dk_at dksX7_find_2 13 rfl rfl)
theorem dX7_find_62 : decode cX7_find 62 = .ok (.iload 8, 2) := dk_21 8 (dk_at dksX7_find_2 16 rfl rfl)
theorem dX7_find_64 : decode cX7_find 64 = .ok (.iaload, 1) := dk_46 (dk_at dksX7_find_2 18 rfl rfl)
theorem dX7_find_65 : decode cX7_find 65 = .ok (.iload_n 1, 1) := dk_27 (dk_at dksX7_find_2 19 rfl rfl)
theorem dX7_find_66 : decode cX7_find 66 = .ok (.if_icmp .ne 41, 3) := dk_160 0 41 (dk_at dksX7_find_2 20 rfl rfl)
theorem dX7_find_69 : decode cX7_find 69 = .ok (.iload_n 2, 1) := dk_28 (dk_at dksX7_find_2 23 rfl rfl)
theorem dX7_find_70 : decode cX7_find 70 = .ok (.iconst (-1), 1) := dk_2 (dk_at dksX7_find_3 0 rfl rfl)
theorem dX7_find_71 : decode cX7_find 71 = .ok (.if_icmp .eq 16, 3) := dk_159 0 16 (dk_at dksX7_find_3 1 rfl rfl)
theorem dX7_find_74 : decode cX7_find 74 = .ok (.aload_n 0, 1) := dk_42 (dk_at dksX7_find_3 4 rfl rfl)
theorem dX7_find_75 : decode cX7_find 75 = .ok (.getfield 7, 3) := dk_180 0 7 (dk_at dksX7_find_3 5 rfl rfl)
theorem dX7_find_78 : decode cX7_find 78 = .ok (.iload 8, 2) := dk_21 8 (dk_at dksX7_find_3 8 rfl rfl)
theorem dX7_find_80 : decode cX7_find 80 = .ok (.iconst 1, 1) := dk_4 (dk_at dksX7_find_3 10 rfl rfl)
theorem dX7_find_81 : decode cX7_find 81 = .ok (.iadd, 1) := dk_96 (dk_at dksX7_find_3 11 rfl rfl)
theorem dX7_find_82 : decode cX7_find 82 = .ok (.iaload, 1) := dk_46 (dk_at dksX7_find_3 12 rfl rfl)
theorem dX7_find_83 : decode cX7_find 83 = .ok (.iload_n 2, 1) := dk_28 (dk_at dksX7_find_3 13 rfl rfl)
theorem dX7_find_84 : decode cX7_find 84 = .ok (.if_icmp .ne 23, 3) := dk_160 0 23 (dk_at dksX7_find_3 14 rfl rfl)
theorem dX7_find_87 : decode cX7_find 87 = .ok (.aload_n 0, 1) := dk_42 (dk_at dksX7_find_3 17 rfl rfl)
theorem dX7_find_88 : decode cX7_find 88 = .ok (.getfield 52, 3) := dk_180 0 52 (dk_at dksX7_find_3 18 rfl rfl)
theorem dX7_find_91 : decode cX7_find 91 = .ok (.bipush 12, 2) := dk_16 12 (dk_at dksX7_find_3 21 rfl rfl)
theorem dX7_find_93 : decode cX7_find 93 = .ok (.iload 6, 2) := dk_21 6 (dk_at dksX7_find_4 0 rfl rfl)
theorem dX7_find_95 : decode cX7_find 95 = .ok (.imul, 1) := dk_104 (dk_at dksX7_find_4 2 rfl rfl)
theorem dX7_find_96 : decode cX7_find 96 = .ok (.iload 7, 2) := dk_21 7 (dk_at dksX7_find_4 3 rfl rfl)
theorem dX7_find_98 : decode cX7_find 98 = .ok (.iadd, 1) := dk_96 (dk_at dksX7_find_4 5 rfl rfl)
theorem dX7_find_99 : decode cX7_find 99 = .ok (.baload, 1) := dk_51 (dk_at dksX7_find_4 6 rfl rfl)
theorem dX7_find_100 : decode cX7_find 100 = .ok (.ifCond .ne 7, 3) := dk_154 0 7 (dk_at dksX7_find_4 7 rfl rfl)
theorem dX7_find_103 : decode cX7_find 103 = .ok (.iconst 1, 1) := dk_4 (dk_at dksX7_find_4 10 rfl rfl)
theorem dX7_find_104 : decode cX7_find 104 = .ok (.goto 4, 3) := dk_167 0 4 (dk_at dksX7_find_4 11 rfl rfl)
theorem dX7_find_107 : decode cX7_find 107 = .ok (.iconst 0, 1) := dk_3 (dk_at dksX7_find_4 14 rfl rfl)
theorem dX7_find_108 : decode cX7_find 108 = .ok (.istore 9, 2) := dk_54 9 (dk_at dksX7_find_4 15 rfl rfl)
theorem dX7_find_110 : decode cX7_find 110 = .ok (.iload 9, 2) := dk_21 9 (dk_at dksX7_find_4 17 rfl rfl)
theorem dX7_find_112 : decode cX7_find 112 = .ok (.ifCond .eq 22, 3) := dk_153 0 22 (dk_at dksX7_find_4 19 rfl rfl)
theorem dX7_find_115 : decode cX7_find 115 = .ok (.aload_n 0, 1) := dk_42 (dk_at dksX7_find_4 22 rfl rfl)
theorem dX7_find_116 : decode cX7_find 116 = .ok (.iload 6, 2) := dk_21 6 (dk_at dksX7_find_5 0 rfl rfl)
theorem dX7_find_118 : decode cX7_find 118 = .ok (.iload 8, 2) := dk_21 8 (dk_at dksX7_find_5 2 rfl rfl)
theorem dX7_find_120 : decode cX7_find 120 = .ok (.invokevirtual 465, 3) := dk_182 1 209 (dk_at dksX7_find_5 4 rfl rfl)
theorem dX7_find_123 : decode cX7_find 123 = .ok (.ifCond .eq 11, 3) := dk_153 0 11 (dk_at dksX7_find_5 7 rfl rfl)
theorem dX7_find_126 : decode cX7_find 126 = .ok (.iconst 1, 1) := dk_4 (dk_at dksX7_find_5 10 rfl rfl)
theorem dX7_find_127 : decode cX7_find 127 = .ok (.istore_n 3, 1) := dk_62 (dk_at dksX7_find_5 11 rfl rfl)
theorem dX7_find_128 : decode cX7_find 128 = .ok (.aload_n 0, 1) := dk_42 (dk_at dksX7_find_5 12 rfl rfl)
theorem dX7_find_129 : decode cX7_find 129 = .ok (.getfield 462, 3) := dk_180 1 206 (dk_at dksX7_find_5 13 rfl rfl)
theorem dX7_find_132 : decode cX7_find 132 = .ok (.lstore 4, 2) := dk_55 4 (dk_at dksX7_find_5 16 rfl rfl)
theorem dX7_find_134 : decode cX7_find 134 = .ok (.iinc 7 1, 3) := dk_132 7 1 (dk_at dksX7_find_5 18 rfl rfl)
theorem dX7_find_137 : decode cX7_find 137 = .ok (.goto (-115), 3) := dk_167 255 141 (dk_at dksX7_find_5 21 rfl rfl)
theorem dX7_find_140 : decode cX7_find 140 = .ok (.iinc 6 1, 3) := dk_132 6 1 (dk_at dksX7_find_6 0 rfl rfl)
theorem dX7_find_143 : decode cX7_find 143 = .ok (.goto (-135), 3) := dk_167 255 121 (dk_at dksX7_find_6 3 rfl rfl)
theorem dX7_find_146 : decode cX7_find 146 = .ok (.aload_n 0, 1) := dk_42 (dk_at dksX7_find_6 6 rfl rfl)
theorem dX7_find_147 : decode cX7_find 147 = .ok (.lload 4, 2) := dk_22 4 (dk_at dksX7_find_6 7 rfl rfl)
theorem dX7_find_149 : decode cX7_find 149 = .ok (.putfield 462, 3) := dk_181 1 206 (dk_at dksX7_find_6 9 rfl rfl)
theorem dX7_find_152 : decode cX7_find 152 = .ok (.iload_n 3, 1) := dk_29 (dk_at dksX7_find_6 12 rfl rfl)
theorem dX7_find_153 : decode cX7_find 153 = .ok (.ireturn, 1) := dk_172 (dk_at dksX7_find_6 13 rfl rfl)
def dkwX7_isSo_4 : List UInt8 := [154, 0, 7, 4, 167, 0, 4, 3, 172]
abbrev dktX7_isSo_4 : List UInt8 := dkwX7_isSo_4 ++ []
def dkwX7_isSo_3 : List UInt8 := [42, 180, 0, 7, 28, 7, 96, 46, 182, 1, 202, 42, 42, 180, 1, 199, 181, 1, 206, 42, 180, 1, 188]
abbrev dktX7_isSo_3 : List UInt8 := dkwX7_isSo_3 ++ dktX7_isSo_4
def dkwX7_isSo_2 : List UInt8 := [154, 0, 12, 42, 180, 1, 199, 9, 148, 154, 0, 5, 3, 172, 42, 27, 42, 180, 0, 7, 28, 6, 96, 46]
abbrev dktX7_isSo_2 : List UInt8 := dkwX7_isSo_2 ++ dktX7_isSo_3
def dkwX7_isSo_1 : List UInt8 := [180, 0, 7, 28, 8, 96, 46, 42, 180, 0, 7, 28, 16, 6, 96, 46, 182, 1, 202, 42, 180, 1, 188]
abbrev dktX7_isSo_1 : List UInt8 := dkwX7_isSo_1 ++ dktX7_isSo_2
def dkwX7_isSo_0 : List UInt8 := [42, 180, 0, 7, 28, 8, 96, 46, 42, 180, 0, 7, 28, 16, 6, 96, 46, 162, 0, 43, 42, 27, 42]
abbrev dktX7_isSo_0 : List UInt8 := dkwX7_isSo_0 ++ dktX7_isSo_1
theorem dksX7_isSo_0 : cX7_isSo.data.toList.drop 0 = dktX7_isSo_0 := by decide +kernel
theorem dksX7_isSo_1 : cX7_isSo.data.toList.drop 23 = dktX7_isSo_1 := dk_seg dksX7_isSo_0 23 rfl rfl
theorem dksX7_isSo_2 : cX7_isSo.data.toList.drop 46 = dktX7_isSo_2 := dk_seg dksX7_isSo_1 23 rfl rfl
theorem dksX7_isSo_3 : cX7_isSo.data.toList.drop 70 = dktX7_isSo_3 := dk_seg dksX7_isSo_2 24 rfl rfl
theorem dksX7_isSo_4 : cX7_isSo.data.toList.drop 93 = dktX7_isSo_4 := dk_seg dksX7_isSo_3 23 rfl rfl
theorem dX7_isSo_0 : decode cX7_isSo 0 = .ok (.aload_n 0, 1) := dk_42 (dk_at dksX7_isSo_0 0 rfl rfl)
theorem dX7_isSo_1 : decode cX7_isSo 1 = .ok (.getfield 7, 3) := dk_180 0 7 (dk_at dksX7_isSo_0 1 rfl rfl)
theorem dX7_isSo_4 : decode cX7_isSo 4 = .ok (.iload_n 2, 1) := dk_28 (dk_at dksX7_isSo_0 4 rfl rfl)
theorem dX7_isSo_5 : decode cX7_isSo 5 = .ok (.iconst 5, 1) := dk_8 (dk_at dksX7_isSo_0 5 rfl rfl)
theorem dX7_isSo_6 : decode cX7_isSo 6 = .ok (.iadd, 1) := dk_96 (dk_at dksX7_isSo_0 6 rfl rfl)
theorem dX7_isSo_7 : decode cX7_isSo 7 = .ok (.iaload, 1) := dk_46 (dk_at dksX7_isSo_0 7 rfl rfl)
theorem dX7_isSo_8 : decode cX7_isSo 8 = .ok (.aload_n 0, 1) := dk_42 (dk_at dksX7_isSo_0 8 rfl rfl)
theorem dX7_isSo_9 : decode cX7_isSo 9 = .ok (.getfield 7, 3) := dk_180 0 7 (dk_at dksX7_isSo_0 9 rfl rfl)
theorem dX7_isSo_12 : decode cX7_isSo 12 = .ok (.iload_n 2, 1) := dk_28 (dk_at dksX7_isSo_0 12 rfl rfl)
theorem dX7_isSo_13 : decode cX7_isSo 13 = .ok (.bipush 6, 2) := dk_16 6 (dk_at dksX7_isSo_0 13 rfl rfl)
theorem dX7_isSo_15 : decode cX7_isSo 15 = .ok (.iadd, 1) := dk_96 (dk_at dksX7_isSo_0 15 rfl rfl)
theorem dX7_isSo_16 : decode cX7_isSo 16 = .ok (.iaload, 1) := dk_46 (dk_at dksX7_isSo_0 16 rfl rfl)
theorem dX7_isSo_17 : decode cX7_isSo 17 = .ok (.if_icmp .ge 43, 3) := dk_162 0 43 (dk_at dksX7_isSo_0 17 rfl rfl)
theorem dX7_isSo_20 : decode cX7_isSo 20 = .ok (.aload_n 0, 1) := dk_42 (dk_at dksX7_isSo_0 20 rfl rfl)
theorem dX7_isSo_21 : decode cX7_isSo 21 = .ok (.iload_n 1, 1) := dk_27 (dk_at dksX7_isSo_0 21 rfl rfl)
theorem dX7_isSo_22 : decode cX7_isSo 22 = .ok (.aload_n 0, 1) := dk_42 (dk_at dksX7_isSo_0 22 rfl rfl)
theorem dX7_isSo_23 : decode cX7_isSo 23 = .ok (.getfield 7, 3) := dk_180 0 7 (dk_at dksX7_isSo_1 0 rfl rfl)
theorem dX7_isSo_26 : decode cX7_isSo 26 = .ok (.iload_n 2, 1) := dk_28 (dk_at dksX7_isSo_1 3 rfl rfl)
theorem dX7_isSo_27 : decode cX7_isSo 27 = .ok (.iconst 5, 1) := dk_8 (dk_at dksX7_isSo_1 4 rfl rfl)
theorem dX7_isSo_28 : decode cX7_isSo 28 = .ok (.iadd, 1) := dk_96 (dk_at dksX7_isSo_1 5 rfl rfl)
theorem dX7_isSo_29 : decode cX7_isSo 29 = .ok (.iaload, 1) := dk_46 (dk_at dksX7_isSo_1 6 rfl rfl)
theorem dX7_isSo_30 : decode cX7_isSo 30 = .ok (.aload_n 0, 1) := dk_42 (dk_at dksX7_isSo_1 7 rfl rfl)
theorem dX7_isSo_31 : decode cX7_isSo 31 = .ok (.getfield 7, 3) := dk_180 0 7 (dk_at dksX7_isSo_1 8 rfl rfl)
theorem dX7_isSo_34 : decode cX7_isSo 34 = .ok (.iload_n 2, 1) := dk_28 (dk_at dksX7_isSo_1 11 rfl rfl)
theorem dX7_isSo_35 : decode cX7_isSo 35 = .ok (.bipush 6, 2) := dk_16 6 (dk_at dksX7_isSo_1 12 rfl rfl)
theorem dX7_isSo_37 : decode cX7_isSo 37 = .ok (.iadd, 1) := dk_96 (dk_at dksX7_isSo_1 14 rfl rfl)
theorem dX7_isSo_38 : decode cX7_isSo 38 = .ok (.iaload, 1) := dk_46 (dk_at dksX7_isSo_1 15 rfl rfl)
theorem dX7_isSo_39 : decode cX7_isSo 39 = .ok (.invokevirtual 458, 3) := dk_182 1 202 (dk_at dksX7_isSo_1 16 rfl rfl)
theorem dX7_isSo_42 : decode cX7_isSo 42 = .ok (.aload_n 0, 1) := dk_42 (dk_at dksX7_isSo_1 19 rfl rfl)
theorem dX7_isSo_43 : decode cX7_isSo 43 = .ok (.getfield 444, 3) := dk_180 1 188 (dk_at dksX7_isSo_1 20 rfl rfl)
theorem dX7_isSo_46 : decode cX7_isSo 46 = .ok (.ifCond .ne 12, 3) := dk_154 0 12 (dk_at dksX7_isSo_2 0 rfl rfl)
theorem dX7_isSo_49 : decode cX7_isSo 49 = .ok (.aload_n 0, 1) := dk_42 (dk_at dksX7_isSo_2 3 rfl rfl)
theorem dX7_isSo_50 : decode cX7_isSo 50 = .ok (.getfield 455, 3) := dk_180 1 199 (dk_at dksX7_isSo_2 4 rfl rfl)
theorem dX7_isSo_53 : decode cX7_isSo 53 = .ok (.lconst 0, 1) := dk_9 (dk_at dksX7_isSo_2 7 rfl rfl)
theorem dX7_isSo_54 : decode cX7_isSo 54 = .ok (.lcmp, 1) := dk_148 (dk_at dksX7_isSo_2 8 rfl rfl)
theorem dX7_isSo_55 : decode cX7_isSo 55 = .ok (.ifCond .ne 5, 3) := dk_154 0 5 (dk_at dksX7_isSo_2 9 rfl rfl)
theorem dX7_isSo_58 : decode cX7_isSo 58 = .ok (.iconst 0, 1) := dk_3 (dk_at dksX7_isSo_2 12 rfl rfl)
theorem dX7_isSo_59 : decode cX7_isSo 59 = .ok (.ireturn, 1) := dk_172 (dk_at dksX7_isSo_2 13 rfl rfl)
theorem dX7_isSo_60 : decode cX7_isSo 60 = .ok (.aload_n 0, 1) := dk_42 (dk_at dksX7_isSo_2 14 rfl rfl)
theorem dX7_isSo_61 : decode cX7_isSo 61 = .ok (.iload_n 1, 1) := dk_27 (dk_at dksX7_isSo_2 15 rfl rfl)
theorem dX7_isSo_62 : decode cX7_isSo 62 = .ok (.aload_n 0, 1) := dk_42 (dk_at dksX7_isSo_2 16 rfl rfl)
theorem dX7_isSo_63 : decode cX7_isSo 63 = .ok (.getfield 7, 3) := dk_180 0 7 (dk_at dksX7_isSo_2 17 rfl rfl)
theorem dX7_isSo_66 : decode cX7_isSo 66 = .ok (.iload_n 2, 1) := dk_28 (dk_at dksX7_isSo_2 20 rfl rfl)
theorem dX7_isSo_67 : decode cX7_isSo 67 = .ok (.iconst 3, 1) := dk_6 (dk_at dksX7_isSo_2 21 rfl rfl)
theorem dX7_isSo_68 : decode cX7_isSo 68 = .ok (.iadd, 1) := dk_96 (dk_at dksX7_isSo_2 22 rfl rfl)
theorem dX7_isSo_69 : decode cX7_isSo 69 = .ok (.iaload, 1) := dk_46 (dk_at dksX7_isSo_2 23 rfl rfl)
theorem dX7_isSo_70 : decode cX7_isSo 70 = .ok (.aload_n 0, 1) := dk_42 (dk_at dksX7_isSo_3 0 rfl rfl)
theorem dX7_isSo_71 : decode cX7_isSo 71 = .ok (.getfield 7, 3) := dk_180 0 7 (dk_at dksX7_isSo_3 1 rfl rfl)
theorem dX7_isSo_74 : decode cX7_isSo 74 = .ok (.iload_n 2, 1) := dk_28 (dk_at dksX7_isSo_3 4 rfl rfl)
theorem dX7_isSo_75 : decode cX7_isSo 75 = .ok (.iconst 4, 1) := dk_7 (dk_at dksX7_isSo_3 5 rfl rfl)
theorem dX7_isSo_76 : decode cX7_isSo 76 = .ok (.iadd, 1) := dk_96 (dk_at dksX7_isSo_3 6 rfl rfl)
theorem dX7_isSo_77 : decode cX7_isSo 77 = .ok (.iaload, 1) := dk_46 (dk_at dksX7_isSo_3 7 rfl rfl)
theorem dX7_isSo_78 : decode cX7_isSo 78 = .ok (.invokevirtual 458, 3) := dk_182 1 202 (dk_at dksX7_isSo_3 8 rfl rfl)
theorem dX7_isSo_81 : decode cX7_isSo 81 = .ok (.aload_n 0, 1) := dk_42 (dk_at dksX7_isSo_3 11 rfl rfl)
theorem dX7_isSo_82 : decode cX7_isSo 82 = .ok (.aload_n 0, 1) := dk_42 (dk_at dksX7_isSo_3 12 rfl rfl)
theorem dX7_isSo_83 : decode cX7_isSo 83 = .ok (.getfield 455, 3) := dk_180 1 199 (dk_at dksX7_isSo_3 13 rfl rfl)
theorem dX7_isSo_86 : decode cX7_isSo 86 = .ok (.putfield 462, 3) := dk_181 1 206 (dk_at dksX7_isSo_3 16 rfl rfl)
theorem dX7_isSo_89 : decode cX7_isSo 89 = .ok (.aload_n 0, 1) := dk_42 (dk_at dksX7_isSo_3 19 rfl rfl)
theorem dX7_isSo_90 : decode cX7_isSo 90 = .ok (.getfield 444, 3) := dk_180 1 188 (dk_at dksX7_isSo_3 20 rfl rfl)
theorem dX7_isSo_93 : decode cX7_isSo 93 = .ok (.ifCond .ne 7, 3) := dk_154 0 7 (dk_at dksX7_isSo_4 0 rfl rfl)
theorem dX7_isSo_96 : decode cX7_isSo 96 = .ok (.iconst 1, 1) := dk_4 (dk_at dksX7_isSo_4 3 rfl rfl)
theorem dX7_isSo_97 : decode cX7_isSo 97 = .ok (.goto 4, 3) := dk_167 0 4 (dk_at dksX7_isSo_4 4 rfl rfl)
theorem dX7_isSo_100 : decode cX7_isSo 100 = .ok (.iconst 0, 1) := dk_3 (dk_at dksX7_isSo_4 7 rfl rfl)
theorem dX7_isSo_101 : decode cX7_isSo 101 = .ok (.ireturn, 1) := dk_172 (dk_at dksX7_isSo_4 8 rfl rfl)
def dkwX7_run_11 : List UInt8 := [180, 0, 59, 3, 47, 167, 0, 4, 9, 181, 1, 199, 177]
abbrev dktX7_run_11 : List UInt8 := dkwX7_run_11 ++ []
def dkwX7_run_10 : List UInt8 := [148, 154, 0, 10, 21, 7, 54, 5, 167, 0, 6, 132, 4, 255, 167, 255, 16, 42, 21, 4, 158, 0, 12, 42]
abbrev dktX7_run_10 : List UInt8 := dkwX7_run_10 ++ dktX7_run_11
def dkwX7_run_9 : List UInt8 := [167, 0, 38, 42, 180, 0, 59, 21, 4, 4, 100, 47, 21, 6, 16, 28, 160, 0, 7, 9, 167, 0, 4, 10]
abbrev dktX7_run_9 : List UInt8 := dkwX7_run_9 ++ dktX7_run_10
def dkwX7_run_8 : List UInt8 := [160, 0, 26, 42, 180, 0, 59, 21, 4, 4, 100, 10, 42, 180, 0, 59, 21, 4, 4, 100, 47, 101, 80]
abbrev dktX7_run_8 : List UInt8 := dkwX7_run_8 ++ dktX7_run_9
def dkwX7_run_7 : List UInt8 := [20, 1, 197, 184, 0, 121, 154, 0, 7, 4, 167, 0, 4, 3, 181, 1, 188, 167, 0, 68, 21, 6, 16, 27]
abbrev dktX7_run_7 : List UInt8 := dkwX7_run_7 ++ dktX7_run_8
def dkwX7_run_6 : List UInt8 := [182, 1, 191, 80, 42, 42, 180, 1, 188, 154, 0, 24, 42, 180, 0, 59, 21, 4, 4, 100, 47, 20, 1, 195]
abbrev dktX7_run_6 : List UInt8 := dkwX7_run_6 ++ dktX7_run_7
def dkwX7_run_5 : List UInt8 := [21, 4, 4, 100, 42, 21, 6, 42, 180, 0, 59, 21, 4, 4, 100, 47, 42, 180, 0, 59, 21, 4, 47]
abbrev dktX7_run_5 : List UInt8 := dkwX7_run_5 ++ dktX7_run_6
def dkwX7_run_4 : List UInt8 := [21, 6, 47, 80, 132, 4, 1, 167, 0, 149, 21, 6, 16, 27, 162, 0, 77, 132, 4, 255, 42, 180, 0, 59]
abbrev dktX7_run_4 : List UInt8 := dkwX7_run_4 ++ dktX7_run_5
def dkwX7_run_3 : List UInt8 := [162, 0, 34, 42, 180, 0, 59, 21, 4, 21, 6, 154, 0, 9, 21, 7, 133, 167, 0, 10, 42, 180, 0, 55]
abbrev dktX7_run_3 : List UInt8 := dkwX7_run_3 ++ dktX7_run_4
def dkwX7_run_2 : List UInt8 := [184, 1, 167, 16, 98, 96, 5, 21, 5, 104, 96, 4, 96, 46, 54, 7, 132, 5, 1, 21, 6, 16, 20]
abbrev dktX7_run_2 : List UInt8 := dkwX7_run_2 ++ dktX7_run_3
def dkwX7_run_1 : List UInt8 := [42, 180, 0, 7, 27, 184, 1, 167, 16, 98, 96, 5, 21, 5, 104, 96, 46, 54, 6, 42, 180, 0, 7, 27]
abbrev dktX7_run_1 : List UInt8 := dkwX7_run_1 ++ dktX7_run_2
def dkwX7_run_0 : List UInt8 := [42, 3, 181, 1, 188, 3, 54, 4, 28, 54, 5, 21, 5, 29, 162, 0, 240, 42, 180, 1, 188, 154, 0, 233]
abbrev dktX7_run_0 : List UInt8 := dkwX7_run_0 ++ dktX7_run_1
theorem dksX7_run_0 : cX7_run.data.toList.drop 0 = dktX7_run_0 := by decide +kernel
theorem dksX7_run_1 : cX7_run.data.toList.drop 24 = dktX7_run_1 := dk_seg dksX7_run_0 24 rfl rfl
theorem dksX7_run_2 : cX7_run.data.toList.drop 48 = dktX7_run_2 := dk_seg dksX7_run_1 24 rfl rfl
theorem dksX7_run_3 : cX7_run.data.toList.drop 71 = dktX7_run_3 := dk_seg dksX7_run_2 23 rfl rfl
theorem dksX7_run_4 : cX7_run.data.toList.drop 95 = dktX7_run_4 := dk_seg dksX7_run_3 24 rfl rfl
theorem dksX7_run_5 : cX7_run.data.toList.drop 119 = dktX7_run_5 := dk_seg dksX7_run_4 24 rfl rfl
theorem dksX7_run_6 : cX7_run.data.toList.drop 142 = dktX7_run_6 := dk_seg dksX7_run_5 23 rfl rfl
theorem dksX7_run_7 : cX7_run.data.toList.drop 166 = dktX7_run_7 := dk_seg dksX7_run_6 24 rfl rfl
theorem dksX7_run_8 : cX7_run.data.toList.drop 190 = dktX7_run_8 := dk_seg dksX7_run_7 24 rfl rfl
theorem dksX7_run_9 : cX7_run.data.toList.drop 213 = dktX7_run_9 := dk_seg dksX7_run_8 23 rfl rfl
theorem dksX7_run_10 : cX7_run.data.toList.drop 237 = dktX7_run_10 := dk_seg dksX7_run_9 24 rfl rfl
theorem dksX7_run_11 : cX7_run.data.toList.drop 261 = dktX7_run_11 := dk_seg dksX7_run_10 24 rfl rfl
theorem dX7_run_0 : decode cX7_run 0 = .ok (.aload_n 0, 1) := dk_42 (dk_at dksX7_run_0 0 rfl rfl)
theorem dX7_run_1 : decode cX7_run 1 = .ok (.iconst 0, 1) := dk_3 (dk_at dksX7_run_0 1 rfl rfl)
theorem dX7_run_2 : decode cX7_run 2 = .ok (.putfield 444, 3) := dk_181 1 188 (dk_at dksX7_run_0 2 rfl rfl)
theorem dX7_run_5 : decode cX7_run 5 = .ok (.iconst 0, 1) := dk_3 (dk_at dksX7_run_0 5 rfl rfl)
theorem dX7_run_6 : decode cX7_run 6 = .ok (.istore 4, 2) := dk_54 4 (dk_at dksX7_run_0 6 rfl rfl)
theorem dX7_run_8 : decode cX7_run 8 = .ok (.iload_n 2, 1) := dk_28 (dk_at dksX7_run_0 8 rfl rfl)
theorem dX7_run_9 : decode cX7_run 9 = .ok (.istore 5, 2) := dk_54 5 (dk_at dksX7_run_0 9 rfl rfl)
theorem dX7_run_11 : decode cX7_run 11 = .ok (.iload 5, 2) := dk_21 5 (dk_at dksX7_run_0 11 rfl rfl)
theorem dX7_run_13 : decode cX7_run 13 = .ok (.iload_n 3, 1) := dk_29 (dk_at dksX7_run_0 13 rfl rfl)
theorem dX7_run_14 : decode cX7_run 14 = .ok (.if_icmp .ge 240, 3) := dk_162 0 240 (dk_at dksX7_run_0 14 rfl rfl)
theorem dX7_run_17 : decode cX7_run 17 = .ok (.aload_n 0, 1) := dk_42 (dk_at dksX7_run_0 17 rfl rfl)
theorem dX7_run_18 : decode cX7_run 18 = .ok (.getfield 444, 3) := dk_180 1 188 (dk_at dksX7_run_0 18 rfl rfl)
theorem dX7_run_21 : decode cX7_run 21 = .ok (.ifCond .ne 233, 3) := dk_154 0 233 (dk_at dksX7_run_0 21 rfl rfl)
theorem dX7_run_24 : decode cX7_run 24 = .ok (.aload_n 0, 1) := dk_42 (dk_at dksX7_run_1 0 rfl rfl)
theorem dX7_run_25 : decode cX7_run 25 = .ok (.getfield 7, 3) := dk_180 0 7 (dk_at dksX7_run_1 1 rfl rfl)
theorem dX7_run_28 : decode cX7_run 28 = .ok (.iload_n 1, 1) := dk_27 (dk_at dksX7_run_1 4 rfl rfl)
theorem dX7_run_29 : decode cX7_run 29 = .ok (.invokestatic 423, 3) := dk_184 1 167 (dk_at dksX7_run_1 5 rfl rfl)
theorem dX7_run_32 : decode cX7_run 32 = .ok (.bipush 98, 2) := dk_16 98 (dk_at dksX7_run_1 8 rfl rfl)
theorem dX7_run_34 : decode cX7_run 34 = .ok (.iadd, 1) := dk_96 (dk_at dksX7_run_1 10 rfl rfl)
theorem dX7_run_35 : decode cX7_run 35 = .ok (.iconst 2, 1) := dk_5 (dk_at dksX7_run_1 11 rfl rfl)
theorem dX7_run_36 : decode cX7_run 36 = .ok (.iload 5, 2) := dk_21 5 (dk_at dksX7_run_1 12 rfl rfl)
theorem dX7_run_38 : decode cX7_run 38 = .ok (.imul, 1) := dk_104 (dk_at dksX7_run_1 14 rfl rfl)
theorem dX7_run_39 : decode cX7_run 39 = .ok (.iadd, 1) := dk_96 (dk_at dksX7_run_1 15 rfl rfl)
theorem dX7_run_40 : decode cX7_run 40 = .ok (.iaload, 1) := dk_46 (dk_at dksX7_run_1 16 rfl rfl)
theorem dX7_run_41 : decode cX7_run 41 = .ok (.istore 6, 2) := dk_54 6 (dk_at dksX7_run_1 17 rfl rfl)
theorem dX7_run_43 : decode cX7_run 43 = .ok (.aload_n 0, 1) := dk_42 (dk_at dksX7_run_1 19 rfl rfl)
theorem dX7_run_44 : decode cX7_run 44 = .ok (.getfield 7, 3) := dk_180 0 7 (dk_at dksX7_run_1 20 rfl rfl)
theorem dX7_run_47 : decode cX7_run 47 = .ok (.iload_n 1, 1) := dk_27 (dk_at dksX7_run_1 23 rfl rfl)
theorem dX7_run_48 : decode cX7_run 48 = .ok (.invokestatic 423, 3) := dk_184 1 167 (dk_at dksX7_run_2 0 rfl rfl)
theorem dX7_run_51 : decode cX7_run 51 = .ok (.bipush 98, 2) := dk_16 98 (dk_at dksX7_run_2 3 rfl rfl)
theorem dX7_run_53 : decode cX7_run 53 = .ok (.iadd, 1) := dk_96 (dk_at dksX7_run_2 5 rfl rfl)
theorem dX7_run_54 : decode cX7_run 54 = .ok (.iconst 2, 1) := dk_5 (dk_at dksX7_run_2 6 rfl rfl)
theorem dX7_run_55 : decode cX7_run 55 = .ok (.iload 5, 2) := dk_21 5 (dk_at dksX7_run_2 7 rfl rfl)
theorem dX7_run_57 : decode cX7_run 57 = .ok (.imul, 1) := dk_104 (dk_at dksX7_run_2 9 rfl rfl)
theorem dX7_run_58 : decode cX7_run 58 = .ok (.iadd, 1) := dk_96 (dk_at dksX7_run_2 10 rfl rfl)
theorem dX7_run_59 : decode cX7_run 59 = .ok (.iconst 1, 1) := dk_4 (dk_at dksX7_run_2 11 rfl rfl)
theorem dX7_run_60 : decode cX7_run 60 = .ok (.iadd, 1) := dk_96 (dk_at dksX7_run_2 12 rfl rfl)
theorem dX7_run_61 : decode cX7_run 61 = .ok (.iaload, 1) := dk_46 (dk_at dksX7_run_2 13 rfl rfl)
theorem dX7_run_62 : decode cX7_run 62 = .ok (.istore 7, 2) := dk_54 7 (dk_at dksX7_run_2 14 rfl rfl)
theorem dX7_run_64 : decode cX7_run 64 = .ok (.iinc 5 1, 3) := dk_132 5 1 (dk_at dksX7_run_2 16 rfl rfl)
theorem dX7_run_67 : decode cX7_run 67 = .ok (.iload 6, 2) := dk_21 6 (dk_at dksX7_run_2 19 rfl rfl)
theorem dX7_run_69 : decode cX7_run 69 = .ok (.bipush 20, 2) := dk_16 20 (dk_at dksX7_run_2 21 rfl rfl)
theorem dX7_run_71 : decode cX7_run 71 = .ok (.if_icmp .ge 34, 3) := dk_162 0 34 (dk_at dksX7_run_3 0 rfl rfl)
theorem dX7_run_74 : decode cX7_run 74 = .ok (.aload_n 0, 1) := dk_42 (dk_at dksX7_run_3 3 rfl rfl)
theorem dX7_run_75 : decode cX7_run 75 = .ok (.getfield 59, 3) := dk_180 0 59 (dk_at dksX7_run_3 4 rfl rfl)
theorem dX7_run_78 : decode cX7_run 78 = .ok (.iload 4, 2) := dk_21 4 (dk_at dksX7_run_3 7 rfl rfl)
theorem dX7_run_80 : decode cX7_run 80 = .ok (.iload 6, 2) := dk_21 6 (dk_at dksX7_run_3 9 rfl rfl)
theorem dX7_run_82 : decode cX7_run 82 = .ok (.ifCond .ne 9, 3) := dk_154 0 9 (dk_at dksX7_run_3 11 rfl rfl)
theorem dX7_run_85 : decode cX7_run 85 = .ok (.iload 7, 2) := dk_21 7 (dk_at dksX7_run_3 14 rfl rfl)
theorem dX7_run_87 : decode cX7_run 87 = .ok (.i2l, 1) := dk_133 (dk_at dksX7_run_3 16 rfl rfl)
theorem dX7_run_88 : decode cX7_run 88 = .ok (.goto 10, 3) := dk_167 0 10 (dk_at dksX7_run_3 17 rfl rfl)
theorem dX7_run_91 : decode cX7_run 91 = .ok (.aload_n 0, 1) := dk_42 (dk_at dksX7_run_3 20 rfl rfl)
theorem dX7_run_92 : decode cX7_run 92 = .ok (.getfield 55, 3) := dk_180 0 55 (dk_at dksX7_run_3 21 rfl rfl)
theorem dX7_run_95 : decode cX7_run 95 = .ok (.iload 6, 2) := dk_21 6 (dk_at dksX7_run_4 0 rfl rfl)
theorem dX7_run_97 : decode cX7_run 97 = .ok (.laload, 1) := dk_47 (dk_at dksX7_run_4 2 rfl rfl)
theorem dX7_run_98 : decode cX7_run 98 = .ok (.lastore, 1) := dk_80 (dk_at dksX7_run_4 3 rfl rfl)
theorem dX7_run_99 : decode cX7_run 99 = .ok (.iinc 4 1, 3) := dk_132 4 1 (dk_at dksX7_run_4 4 rfl rfl)
theorem dX7_run_102 : decode cX7_run 102 = .ok (.goto 149, 3) := dk_167 0 149 (dk_at dksX7_run_4 7 rfl rfl)
theorem dX7_run_105 : decode cX7_run 105 = .ok (.iload 6, 2) := dk_21 6 (dk_at dksX7_run_4 10 rfl rfl)
theorem dX7_run_107 : decode cX7_run 107 = .ok (.bipush 27, 2) := dk_16 27 (dk_at dksX7_run_4 12 rfl rfl)
theorem dX7_run_109 : decode cX7_run 109 = .ok (.if_icmp .ge 77, 3) := dk_162 0 77 (dk_at dksX7_run_4 14 rfl rfl)
theorem dX7_run_112 : decode cX7_run 112 = .ok (.iinc 4 (-1), 3) := dk_132 4 255 (dk_at dksX7_run_4 17 rfl rfl)
theorem dX7_run_115 : decode cX7_run 115 = .ok (.aload_n 0, 1) := dk_42 (dk_at dksX7_run_4 20 rfl rfl)
theorem dX7_run_116 : decode cX7_run 116 = .ok (.getfield 59, 3) := dk_180 0 59 (dk_at dksX7_run_4 21 rfl rfl)
theorem dX7_run_119 : decode cX7_run 119 = .ok (.iload 4, 2) := dk_21 4 (dk_at dksX7_run_5 0 rfl rfl)
theorem dX7_run_121 : decode cX7_run 121 = .ok (.iconst 1, 1) := dk_4 (dk_at dksX7_run_5 2 rfl rfl)
theorem dX7_run_122 : decode cX7_run 122 = .ok (.isub, 1) := dk_100 (dk_at dksX7_run_5 3 rfl rfl)
theorem dX7_run_123 : decode cX7_run 123 = .ok (.aload_n 0, 1) := dk_42 (dk_at dksX7_run_5 4 rfl rfl)
theorem dX7_run_124 : decode cX7_run 124 = .ok (.iload 6, 2) := dk_21 6 (dk_at dksX7_run_5 5 rfl rfl)
theorem dX7_run_126 : decode cX7_run 126 = .ok (.aload_n 0, 1) := dk_42 (dk_at dksX7_run_5 7 rfl rfl)
theorem dX7_run_127 : decode cX7_run 127 = .ok (.getfield 59, 3) := dk_180 0 59 (dk_at dksX7_run_5 8 rfl rfl)
theorem dX7_run_130 : decode cX7_run 130 = .ok (.iload 4, 2) := dk_21 4 (dk_at dksX7_run_5 11 rfl rfl)
theorem dX7_run_132 : decode cX7_run 132 = .ok (.iconst 1, 1) := dk_4 (dk_at dksX7_run_5 13 rfl rfl)
theorem dX7_run_133 : decode cX7_run 133 = .ok (.isub, 1) := dk_100 (dk_at dksX7_run_5 14 rfl rfl)
theorem dX7_run_134 : decode cX7_run 134 = .ok (.laload, 1) := dk_47 (dk_at dksX7_run_5 15 rfl rfl)
theorem dX7_run_135 : decode cX7_run 135 = .ok (.aload_n 0, 1) := dk_42 (dk_at dksX7_run_5 16 rfl rfl)
theorem dX7_run_136 : decode cX7_run 136 = .ok (.getfield 59, 3) := dk_180 0 59 (dk_at dksX7_run_5 17 rfl rfl)
theorem dX7_run_139 : decode cX7_run 139 = .ok (.iload 4, 2) := dk_21 4 (dk_at dksX7_run_5 20 rfl rfl)
theorem dX7_run_141 : decode cX7_run 141 = .ok (.laload, 1) := dk_47 (dk_at dksX7_run_5 22 rfl rfl)
theorem dX7_run_142 : decode cX7_run 142 = .ok (.invokevirtual 447, 3) := dk_182 1 191 (dk_at dksX7_run_6 0 rfl rfl)
theorem dX7_run_145 : decode cX7_run 145 = .ok (.lastore, 1) := dk_80 (dk_at dksX7_run_6 3 rfl rfl)
theorem dX7_run_146 : decode cX7_run 146 = .ok (.aload_n 0, 1) := dk_42 (dk_at dksX7_run_6 4 rfl rfl)
theorem dX7_run_147 : decode cX7_run 147 = .ok (.aload_n 0, 1) := dk_42 (dk_at dksX7_run_6 5 rfl rfl)
theorem dX7_run_148 : decode cX7_run 148 = .ok (.getfield 444, 3) := dk_180 1 188 (dk_at dksX7_run_6 6 rfl rfl)
theorem dX7_run_151 : decode cX7_run 151 = .ok (.ifCond .ne 24, 3) := dk_154 0 24 (dk_at dksX7_run_6 9 rfl rfl)
theorem dX7_run_154 : decode cX7_run 154 = .ok (.aload_n 0, 1) := dk_42 (dk_at dksX7_run_6 12 rfl rfl)
theorem dX7_run_155 : decode cX7_run 155 = .ok (.getfield 59, 3) := dk_180 0 59 (dk_at dksX7_run_6 13 rfl rfl)
theorem dX7_run_158 : decode cX7_run 158 = .ok (.iload 4, 2) := dk_21 4 (dk_at dksX7_run_6 16 rfl rfl)
theorem dX7_run_160 : decode cX7_run 160 = .ok (.iconst 1, 1) := dk_4 (dk_at dksX7_run_6 18 rfl rfl)
theorem dX7_run_161 : decode cX7_run 161 = .ok (.isub, 1) := dk_100 (dk_at dksX7_run_6 19 rfl rfl)
theorem dX7_run_162 : decode cX7_run 162 = .ok (.laload, 1) := dk_47 (dk_at dksX7_run_6 20 rfl rfl)
theorem dX7_run_163 : decode cX7_run 163 = .ok (.ldc2_w 451, 3) := dk_20 1 195 (dk_at dksX7_run_6 21 rfl rfl)
theorem dX7_run_166 : decode cX7_run 166 = .ok (.ldc2_w 453, 3) := dk_20 1 197 (dk_at dksX7_run_7 0 rfl rfl)
theorem dX7_run_169 : decode cX7_run 169 = .ok (.invokestatic 121, 3) := dk_184 0 121 (dk_at dksX7_run_7 3 rfl rfl)
theorem dX7_run_172 : decode cX7_run 172 = .ok (.ifCond .ne 7, 3) := dk_154 0 7 (dk_at dksX7_run_7 6 rfl rfl)
theorem dX7_run_175 : decode cX7_run 175 = .ok (.iconst 1, 1) := dk_4 (dk_at dksX7_run_7 9 rfl rfl)
theorem dX7_run_176 : decode cX7_run 176 = .ok (.goto 4, 3) := dk_167 0 4 (dk_at dksX7_run_7 10 rfl rfl)
theorem dX7_run_179 : decode cX7_run 179 = .ok (.iconst 0, 1) := dk_3 (dk_at dksX7_run_7 13 rfl rfl)
theorem dX7_run_180 : decode cX7_run 180 = .ok (.putfield 444, 3) := dk_181 1 188 (dk_at dksX7_run_7 14 rfl rfl)
theorem dX7_run_183 : decode cX7_run 183 = .ok (.goto 68, 3) := dk_167 0 68 (dk_at dksX7_run_7 17 rfl rfl)
theorem dX7_run_186 : decode cX7_run 186 = .ok (.iload 6, 2) := dk_21 6 (dk_at dksX7_run_7 20 rfl rfl)
theorem dX7_run_188 : decode cX7_run 188 = .ok (.bipush 27, 2) := dk_16 27 (dk_at dksX7_run_7 22 rfl rfl)
theorem dX7_run_190 : decode cX7_run 190 = .ok (.if_icmp .ne 26, 3) := dk_160 0 26 (dk_at dksX7_run_8 0 rfl rfl)
theorem dX7_run_193 : decode cX7_run 193 = .ok (.aload_n 0, 1) := dk_42 (dk_at dksX7_run_8 3 rfl rfl)
theorem dX7_run_194 : decode cX7_run 194 = .ok (.getfield 59, 3) := dk_180 0 59 (dk_at dksX7_run_8 4 rfl rfl)
theorem dX7_run_197 : decode cX7_run 197 = .ok (.iload 4, 2) := dk_21 4 (dk_at dksX7_run_8 7 rfl rfl)
theorem dX7_run_199 : decode cX7_run 199 = .ok (.iconst 1, 1) := dk_4 (dk_at dksX7_run_8 9 rfl rfl)
theorem dX7_run_200 : decode cX7_run 200 = .ok (.isub, 1) := dk_100 (dk_at dksX7_run_8 10 rfl rfl)
theorem dX7_run_201 : decode cX7_run 201 = .ok (.lconst 1, 1) := dk_10 (dk_at dksX7_run_8 11 rfl rfl)
theorem dX7_run_202 : decode cX7_run 202 = .ok (.aload_n 0, 1) := dk_42 (dk_at dksX7_run_8 12 rfl rfl)
theorem dX7_run_203 : decode cX7_run 203 = .ok (.getfield 59, 3) := dk_180 0 59 (dk_at dksX7_run_8 13 rfl rfl)
theorem dX7_run_206 : decode cX7_run 206 = .ok (.iload 4, 2) := dk_21 4 (dk_at dksX7_run_8 16 rfl rfl)
theorem dX7_run_208 : decode cX7_run 208 = .ok (.iconst 1, 1) := dk_4 (dk_at dksX7_run_8 18 rfl rfl)
theorem dX7_run_209 : decode cX7_run 209 = .ok (.isub, 1) := dk_100 (dk_at dksX7_run_8 19 rfl rfl)
theorem dX7_run_210 : decode cX7_run 210 = .ok (.laload, 1) := dk_47 (dk_at dksX7_run_8 20 rfl rfl)
theorem dX7_run_211 : decode cX7_run 211 = .ok (.lsub, 1) := dk_101 (dk_at dksX7_run_8 21 rfl rfl)
theorem dX7_run_212 : decode cX7_run 212 = .ok (.lastore, 1) := dk_80 (dk_at dksX7_run_8 22 rfl rfl)
theorem dX7_run_213 : decode cX7_run 213 = .ok (.goto 38, 3) := dk_167 0 38 (dk_at dksX7_run_9 0 rfl rfl)
theorem dX7_run_216 : decode cX7_run 216 = .ok (.aload_n 0, 1) := dk_42 (dk_at dksX7_run_9 3 rfl rfl)
theorem dX7_run_217 : decode cX7_run 217 = .ok (.getfield 59, 3) := dk_180 0 59 (dk_at dksX7_run_9 4 rfl rfl)
theorem dX7_run_220 : decode cX7_run 220 = .ok (.iload 4, 2) := dk_21 4 (dk_at dksX7_run_9 7 rfl rfl)
theorem dX7_run_222 : decode cX7_run 222 = .ok (.iconst 1, 1) := dk_4 (dk_at dksX7_run_9 9 rfl rfl)
theorem dX7_run_223 : decode cX7_run 223 = .ok (.isub, 1) := dk_100 (dk_at dksX7_run_9 10 rfl rfl)
theorem dX7_run_224 : decode cX7_run 224 = .ok (.laload, 1) := dk_47 (dk_at dksX7_run_9 11 rfl rfl)
theorem dX7_run_225 : decode cX7_run 225 = .ok (.iload 6, 2) := dk_21 6 (dk_at dksX7_run_9 12 rfl rfl)
theorem dX7_run_227 : decode cX7_run 227 = .ok (.bipush 28, 2) := dk_16 28 (dk_at dksX7_run_9 14 rfl rfl)
theorem dX7_run_229 : decode cX7_run 229 = .ok (.if_icmp .ne 7, 3) := dk_160 0 7 (dk_at dksX7_run_9 16 rfl rfl)
theorem dX7_run_232 : decode cX7_run 232 = .ok (.lconst 0, 1) := dk_9 (dk_at dksX7_run_9 19 rfl rfl)
theorem dX7_run_233 : decode cX7_run 233 = .ok (.goto 4, 3) := dk_167 0 4 (dk_at dksX7_run_9 20 rfl rfl)
theorem dX7_run_236 : decode cX7_run 236 = .ok (.lconst 1, 1) := dk_10 (dk_at dksX7_run_9 23 rfl rfl)
theorem dX7_run_237 : decode cX7_run 237 = .ok (.lcmp, 1) := dk_148 (dk_at dksX7_run_10 0 rfl rfl)
theorem dX7_run_238 : decode cX7_run 238 = .ok (.ifCond .ne 10, 3) := dk_154 0 10 (dk_at dksX7_run_10 1 rfl rfl)
theorem dX7_run_241 : decode cX7_run 241 = .ok (.iload 7, 2) := dk_21 7 (dk_at dksX7_run_10 4 rfl rfl)
theorem dX7_run_243 : decode cX7_run 243 = .ok (.istore 5, 2) := dk_54 5 (dk_at dksX7_run_10 6 rfl rfl)
theorem dX7_run_245 : decode cX7_run 245 = .ok (.goto 6, 3) := dk_167 0 6 (dk_at dksX7_run_10 8 rfl rfl)
theorem dX7_run_248 : decode cX7_run 248 = .ok (.iinc 4 (-1), 3) := dk_132 4 255 (dk_at dksX7_run_10 11 rfl rfl)
theorem dX7_run_251 : decode cX7_run 251 = .ok (.goto (-240), 3) := dk_167 255 16 (dk_at dksX7_run_10 14 rfl rfl)
theorem dX7_run_254 : decode cX7_run 254 = .ok (.aload_n 0, 1) := dk_42 (dk_at dksX7_run_10 17 rfl rfl)
theorem dX7_run_255 : decode cX7_run 255 = .ok (.iload 4, 2) := dk_21 4 (dk_at dksX7_run_10 18 rfl rfl)
theorem dX7_run_257 : decode cX7_run 257 = .ok (.ifCond .le 12, 3) := dk_158 0 12 (dk_at dksX7_run_10 20 rfl rfl)
theorem dX7_run_260 : decode cX7_run 260 = .ok (.aload_n 0, 1) := dk_42 (dk_at dksX7_run_10 23 rfl rfl)
theorem dX7_run_261 : decode cX7_run 261 = .ok (.getfield 59, 3) := dk_180 0 59 (dk_at dksX7_run_11 0 rfl rfl)
theorem dX7_run_264 : decode cX7_run 264 = .ok (.iconst 0, 1) := dk_3 (dk_at dksX7_run_11 3 rfl rfl)
theorem dX7_run_265 : decode cX7_run 265 = .ok (.laload, 1) := dk_47 (dk_at dksX7_run_11 4 rfl rfl)
theorem dX7_run_266 : decode cX7_run 266 = .ok (.goto 4, 3) := dk_167 0 4 (dk_at dksX7_run_11 5 rfl rfl)
theorem dX7_run_269 : decode cX7_run 269 = .ok (.lconst 0, 1) := dk_9 (dk_at dksX7_run_11 8 rfl rfl)
theorem dX7_run_270 : decode cX7_run 270 = .ok (.putfield 455, 3) := dk_181 1 199 (dk_at dksX7_run_11 9 rfl rfl)
theorem dX7_run_273 : decode cX7_run 273 = .ok (.return_, 1) := dk_177 (dk_at dksX7_run_11 12 rfl rfl)
def dkwX7_reckon_5 : List UInt8 := [173, 32, 22, 4, 148, 154, 0, 7, 10, 167, 0, 4, 9, 173]
abbrev dktX7_reckon_5 : List UInt8 := dkwX7_reckon_5 ++ []
def dkwX7_reckon_4 : List UInt8 := [22, 4, 148, 156, 0, 7, 10, 167, 0, 4, 9, 173, 32, 22, 4, 148, 158, 0, 7, 10, 167, 0, 4, 9]
abbrev dktX7_reckon_4 : List UInt8 := dkwX7_reckon_4 ++ dktX7_reckon_5
def dkwX7_reckon_3 : List UInt8 := [167, 0, 4, 3, 181, 1, 188, 42, 180, 1, 188, 153, 0, 7, 9, 167, 0, 7, 32, 22, 4, 109, 173, 32]
abbrev dktX7_reckon_3 : List UInt8 := dkwX7_reckon_3 ++ dktX7_reckon_4
def dkwX7_reckon_2 : List UInt8 := [32, 22, 4, 97, 173, 32, 22, 4, 101, 173, 32, 22, 4, 105, 173, 42, 22, 4, 9, 148, 154, 0, 7, 4]
abbrev dktX7_reckon_2 : List UInt8 := dkwX7_reckon_2 ++ dktX7_reckon_3
def dkwX7_reckon_1 : List UInt8 := [170, 0, 0, 0, 0, 0, 112, 0, 0, 0, 20, 0, 0, 0, 25, 0, 0, 0, 39, 0, 0, 0, 44, 0, 0, 0, 49, 0, 0, 0, 54, 0, 0, 0, 86, 0, 0, 0, 99]
abbrev dktX7_reckon_1 : List UInt8 := dkwX7_reckon_1 ++ dktX7_reckon_2
def dkwX7_reckon_0 : List UInt8 := [27]
abbrev dktX7_reckon_0 : List UInt8 := dkwX7_reckon_0 ++ dktX7_reckon_1
theorem dksX7_reckon_0 : cX7_reckon.data.toList.drop 0 = dktX7_reckon_0 := by decide +kernel
theorem dksX7_reckon_1 : cX7_reckon.data.toList.drop 1 = dktX7_reckon_1 := dk_seg dksX7_reckon_0 1 rfl rfl
theorem dksX7_reckon_2 : cX7_reckon.data.toList.drop 40 = dktX7_reckon_2 := dk_seg dksX7_reckon_1 39 rfl rfl
theorem dksX7_reckon_3 : cX7_reckon.data.toList.drop 64 = dktX7_reckon_3 := dk_seg dksX7_reckon_2 24 rfl rfl
theorem dksX7_reckon_4 : cX7_reckon.data.toList.drop 88 = dktX7_reckon_4 := dk_seg dksX7_reckon_3 24 rfl rfl
theorem dksX7_reckon_5 : cX7_reckon.data.toList.drop 112 = dktX7_reckon_5 := dk_seg dksX7_reckon_4 24 rfl rfl
theorem dX7_reckon_0 : decode cX7_reckon 0 = .ok (.iload_n 1, 1) := dk_27 (dk_at dksX7_reckon_0 0 rfl rfl)
theorem dX7_reckon_1 : decode cX7_reckon 1 = .ok (.tableswitch 112 20 25 #[39, 44, 49, 54, 86, 99], 39) := by decide +kernel
theorem dX7_reckon_40 : decode cX7_reckon 40 = .ok (.lload_n 2, 1) := dk_32 (dk_at dksX7_reckon_2 0 rfl rfl)
theorem dX7_reckon_41 : decode cX7_reckon 41 = .ok (.lload 4, 2) := dk_22 4 (dk_at dksX7_reckon_2 1 rfl rfl)
theorem dX7_reckon_43 : decode cX7_reckon 43 = .ok (.ladd, 1) := dk_97 (dk_at dksX7_reckon_2 3 rfl rfl)
theorem dX7_reckon_44 : decode cX7_reckon 44 = .ok (.lreturn, 1) := dk_173 (dk_at dksX7_reckon_2 4 rfl rfl)
theorem dX7_reckon_45 : decode cX7_reckon 45 = .ok (.lload_n 2, 1) := dk_32 (dk_at dksX7_reckon_2 5 rfl rfl)
theorem dX7_reckon_46 : decode cX7_reckon 46 = .ok (.lload 4, 2) := dk_22 4 (dk_at dksX7_reckon_2 6 rfl rfl)
theorem dX7_reckon_48 : decode cX7_reckon 48 = .ok (.lsub, 1) := dk_101 (dk_at dksX7_reckon_2 8 rfl rfl)
theorem dX7_reckon_49 : decode cX7_reckon 49 = .ok (.lreturn, 1) := dk_173 (dk_at dksX7_reckon_2 9 rfl rfl)
theorem dX7_reckon_50 : decode cX7_reckon 50 = .ok (.lload_n 2, 1) := dk_32 (dk_at dksX7_reckon_2 10 rfl rfl)
theorem dX7_reckon_51 : decode cX7_reckon 51 = .ok (.lload 4, 2) := dk_22 4 (dk_at dksX7_reckon_2 11 rfl rfl)
theorem dX7_reckon_53 : decode cX7_reckon 53 = .ok (.lmul, 1) := dk_105 (dk_at dksX7_reckon_2 13 rfl rfl)
theorem dX7_reckon_54 : decode cX7_reckon 54 = .ok (.lreturn, 1) := dk_173 (dk_at dksX7_reckon_2 14 rfl rfl)
theorem dX7_reckon_55 : decode cX7_reckon 55 = .ok (.aload_n 0, 1) := dk_42 (dk_at dksX7_reckon_2 15 rfl rfl)
theorem dX7_reckon_56 : decode cX7_reckon 56 = .ok (.lload 4, 2) := dk_22 4 (dk_at dksX7_reckon_2 16 rfl rfl)
theorem dX7_reckon_58 : decode cX7_reckon 58 = .ok (.lconst 0, 1) := dk_9 (dk_at dksX7_reckon_2 18 rfl rfl)
theorem dX7_reckon_59 : decode cX7_reckon 59 = .ok (.lcmp, 1) := dk_148 (dk_at dksX7_reckon_2 19 rfl rfl)
theorem dX7_reckon_60 : decode cX7_reckon 60 = .ok (.ifCond .ne 7, 3) := dk_154 0 7 (dk_at dksX7_reckon_2 20 rfl rfl)
theorem dX7_reckon_63 : decode cX7_reckon 63 = .ok (.iconst 1, 1) := dk_4 (dk_at dksX7_reckon_2 23 rfl rfl)
theorem dX7_reckon_64 : decode cX7_reckon 64 = .ok (.goto 4, 3) := dk_167 0 4 (dk_at dksX7_reckon_3 0 rfl rfl)
theorem dX7_reckon_67 : decode cX7_reckon 67 = .ok (.iconst 0, 1) := dk_3 (dk_at dksX7_reckon_3 3 rfl rfl)
theorem dX7_reckon_68 : decode cX7_reckon 68 = .ok (.putfield 444, 3) := dk_181 1 188 (dk_at dksX7_reckon_3 4 rfl rfl)
theorem dX7_reckon_71 : decode cX7_reckon 71 = .ok (.aload_n 0, 1) := dk_42 (dk_at dksX7_reckon_3 7 rfl rfl)
theorem dX7_reckon_72 : decode cX7_reckon 72 = .ok (.getfield 444, 3) := dk_180 1 188 (dk_at dksX7_reckon_3 8 rfl rfl)
theorem dX7_reckon_75 : decode cX7_reckon 75 = .ok (.ifCond .eq 7, 3) := dk_153 0 7 (dk_at dksX7_reckon_3 11 rfl rfl)
theorem dX7_reckon_78 : decode cX7_reckon 78 = .ok (.lconst 0, 1) := dk_9 (dk_at dksX7_reckon_3 14 rfl rfl)
theorem dX7_reckon_79 : decode cX7_reckon 79 = .ok (.goto 7, 3) := dk_167 0 7 (dk_at dksX7_reckon_3 15 rfl rfl)
theorem dX7_reckon_82 : decode cX7_reckon 82 = .ok (.lload_n 2, 1) := dk_32 (dk_at dksX7_reckon_3 18 rfl rfl)
theorem dX7_reckon_83 : decode cX7_reckon 83 = .ok (.lload 4, 2) := dk_22 4 (dk_at dksX7_reckon_3 19 rfl rfl)
theorem dX7_reckon_85 : decode cX7_reckon 85 = .ok (.ldiv, 1) := dk_109 (dk_at dksX7_reckon_3 21 rfl rfl)
theorem dX7_reckon_86 : decode cX7_reckon 86 = .ok (.lreturn, 1) := dk_173 (dk_at dksX7_reckon_3 22 rfl rfl)
theorem dX7_reckon_87 : decode cX7_reckon 87 = .ok (.lload_n 2, 1) := dk_32 (dk_at dksX7_reckon_3 23 rfl rfl)
theorem dX7_reckon_88 : decode cX7_reckon 88 = .ok (.lload 4, 2) := dk_22 4 (dk_at dksX7_reckon_4 0 rfl rfl)
theorem dX7_reckon_90 : decode cX7_reckon 90 = .ok (.lcmp, 1) := dk_148 (dk_at dksX7_reckon_4 2 rfl rfl)
theorem dX7_reckon_91 : decode cX7_reckon 91 = .ok (.ifCond .ge 7, 3) := dk_156 0 7 (dk_at dksX7_reckon_4 3 rfl rfl)
theorem dX7_reckon_94 : decode cX7_reckon 94 = .ok (.lconst 1, 1) := dk_10 (dk_at dksX7_reckon_4 6 rfl rfl)
theorem dX7_reckon_95 : decode cX7_reckon 95 = .ok (.goto 4, 3) := dk_167 0 4 (dk_at dksX7_reckon_4 7 rfl rfl)
theorem dX7_reckon_98 : decode cX7_reckon 98 = .ok (.lconst 0, 1) := dk_9 (dk_at dksX7_reckon_4 10 rfl rfl)
theorem dX7_reckon_99 : decode cX7_reckon 99 = .ok (.lreturn, 1) := dk_173 (dk_at dksX7_reckon_4 11 rfl rfl)
theorem dX7_reckon_100 : decode cX7_reckon 100 = .ok (.lload_n 2, 1) := dk_32 (dk_at dksX7_reckon_4 12 rfl rfl)
theorem dX7_reckon_101 : decode cX7_reckon 101 = .ok (.lload 4, 2) := dk_22 4 (dk_at dksX7_reckon_4 13 rfl rfl)
theorem dX7_reckon_103 : decode cX7_reckon 103 = .ok (.lcmp, 1) := dk_148 (dk_at dksX7_reckon_4 15 rfl rfl)
theorem dX7_reckon_104 : decode cX7_reckon 104 = .ok (.ifCond .le 7, 3) := dk_158 0 7 (dk_at dksX7_reckon_4 16 rfl rfl)
theorem dX7_reckon_107 : decode cX7_reckon 107 = .ok (.lconst 1, 1) := dk_10 (dk_at dksX7_reckon_4 19 rfl rfl)
theorem dX7_reckon_108 : decode cX7_reckon 108 = .ok (.goto 4, 3) := dk_167 0 4 (dk_at dksX7_reckon_4 20 rfl rfl)
theorem dX7_reckon_111 : decode cX7_reckon 111 = .ok (.lconst 0, 1) := dk_9 (dk_at dksX7_reckon_4 23 rfl rfl)
theorem dX7_reckon_112 : decode cX7_reckon 112 = .ok (.lreturn, 1) := dk_173 (dk_at dksX7_reckon_5 0 rfl rfl)
theorem dX7_reckon_113 : decode cX7_reckon 113 = .ok (.lload_n 2, 1) := dk_32 (dk_at dksX7_reckon_5 1 rfl rfl)
theorem dX7_reckon_114 : decode cX7_reckon 114 = .ok (.lload 4, 2) := dk_22 4 (dk_at dksX7_reckon_5 2 rfl rfl)
theorem dX7_reckon_116 : decode cX7_reckon 116 = .ok (.lcmp, 1) := dk_148 (dk_at dksX7_reckon_5 4 rfl rfl)
theorem dX7_reckon_117 : decode cX7_reckon 117 = .ok (.ifCond .ne 7, 3) := dk_154 0 7 (dk_at dksX7_reckon_5 5 rfl rfl)
theorem dX7_reckon_120 : decode cX7_reckon 120 = .ok (.lconst 1, 1) := dk_10 (dk_at dksX7_reckon_5 8 rfl rfl)
theorem dX7_reckon_121 : decode cX7_reckon 121 = .ok (.goto 4, 3) := dk_167 0 4 (dk_at dksX7_reckon_5 9 rfl rfl)
theorem dX7_reckon_124 : decode cX7_reckon 124 = .ok (.lconst 0, 1) := dk_9 (dk_at dksX7_reckon_5 12 rfl rfl)
theorem dX7_reckon_125 : decode cX7_reckon 125 = .ok (.lreturn, 1) := dk_173 (dk_at dksX7_reckon_5 13 rfl rfl)
def dkwX7_roll_1 : List UInt8 := [154, 0, 5, 2, 172, 42, 28, 29, 182, 0, 205, 42, 180, 0, 24, 27, 46, 172]
abbrev dktX7_roll_1 : List UInt8 := dkwX7_roll_1 ++ []
def dkwX7_roll_0 : List UInt8 := [42, 3, 181, 0, 113, 42, 27, 182, 0, 162, 153, 0, 17, 28, 184, 0, 159, 153, 0, 10, 29, 184, 0, 159]
abbrev dktX7_roll_0 : List UInt8 := dkwX7_roll_0 ++ dktX7_roll_1
theorem dksX7_roll_0 : cX7_roll.data.toList.drop 0 = dktX7_roll_0 := by decide +kernel
theorem dksX7_roll_1 : cX7_roll.data.toList.drop 24 = dktX7_roll_1 := dk_seg dksX7_roll_0 24 rfl rfl
theorem dX7_roll_0 : decode cX7_roll 0 = .ok (.aload_n 0, 1) := dk_42 (dk_at dksX7_roll_0 0 rfl rfl)
theorem dX7_roll_1 : decode cX7_roll 1 = .ok (.iconst 0, 1) := dk_3 (dk_at dksX7_roll_0 1 rfl rfl)
theorem dX7_roll_2 : decode cX7_roll 2 = .ok (.putfield 113, 3) := dk_181 0 113 (dk_at dksX7_roll_0 2 rfl rfl)
theorem dX7_roll_5 : decode cX7_roll 5 = .ok (.aload_n 0, 1) := dk_42 (dk_at dksX7_roll_0 5 rfl rfl)
theorem dX7_roll_6 : decode cX7_roll 6 = .ok (.iload_n 1, 1) := dk_27 (dk_at dksX7_roll_0 6 rfl rfl)
theorem dX7_roll_7 : decode cX7_roll 7 = .ok (.invokevirtual 162, 3) := dk_182 0 162 (dk_at dksX7_roll_0 7 rfl rfl)
theorem dX7_roll_10 : decode cX7_roll 10 = .ok (.ifCond .eq 17, 3) := dk_153 0 17 (dk_at dksX7_roll_0 10 rfl rfl)
theorem dX7_roll_13 : decode cX7_roll 13 = .ok (.iload_n 2, 1) := dk_28 (dk_at dksX7_roll_0 13 rfl rfl)
theorem dX7_roll_14 : decode cX7_roll 14 = .ok (.invokestatic 159, 3) := dk_184 0 159 (dk_at dksX7_roll_0 14 rfl rfl)
theorem dX7_roll_17 : decode cX7_roll 17 = .ok (.ifCond .eq 10, 3) := dk_153 0 10 (dk_at dksX7_roll_0 17 rfl rfl)
theorem dX7_roll_20 : decode cX7_roll 20 = .ok (.iload_n 3, 1) := dk_29 (dk_at dksX7_roll_0 20 rfl rfl)
theorem dX7_roll_21 : decode cX7_roll 21 = .ok (.invokestatic 159, 3) := dk_184 0 159 (dk_at dksX7_roll_0 21 rfl rfl)
theorem dX7_roll_24 : decode cX7_roll 24 = .ok (.ifCond .ne 5, 3) := dk_154 0 5 (dk_at dksX7_roll_1 0 rfl rfl)
theorem dX7_roll_27 : decode cX7_roll 27 = .ok (.iconst (-1), 1) := dk_2 (dk_at dksX7_roll_1 3 rfl rfl)
theorem dX7_roll_28 : decode cX7_roll 28 = .ok (.ireturn, 1) := dk_172 (dk_at dksX7_roll_1 4 rfl rfl)
theorem dX7_roll_29 : decode cX7_roll 29 = .ok (.aload_n 0, 1) := dk_42 (dk_at dksX7_roll_1 5 rfl rfl)
theorem dX7_roll_30 : decode cX7_roll 30 = .ok (.iload_n 2, 1) := dk_28 (dk_at dksX7_roll_1 6 rfl rfl)
theorem dX7_roll_31 : decode cX7_roll 31 = .ok (.iload_n 3, 1) := dk_29 (dk_at dksX7_roll_1 7 rfl rfl)
theorem dX7_roll_32 : decode cX7_roll 32 = .ok (.invokevirtual 205, 3) := dk_182 0 205 (dk_at dksX7_roll_1 8 rfl rfl)
theorem dX7_roll_35 : decode cX7_roll 35 = .ok (.aload_n 0, 1) := dk_42 (dk_at dksX7_roll_1 11 rfl rfl)
theorem dX7_roll_36 : decode cX7_roll 36 = .ok (.getfield 24, 3) := dk_180 0 24 (dk_at dksX7_roll_1 12 rfl rfl)
theorem dX7_roll_39 : decode cX7_roll 39 = .ok (.iload_n 1, 1) := dk_27 (dk_at dksX7_roll_1 15 rfl rfl)
theorem dX7_roll_40 : decode cX7_roll 40 = .ok (.iaload, 1) := dk_46 (dk_at dksX7_roll_1 16 rfl rfl)
theorem dX7_roll_41 : decode cX7_roll 41 = .ok (.ireturn, 1) := dk_172 (dk_at dksX7_roll_1 17 rfl rfl)
def dkwX7_knowBy_3 : List UInt8 := [42, 29, 27, 28, 182, 0, 181, 92, 46, 4, 96, 79, 132, 3, 1, 167, 255, 207, 177]
abbrev dktX7_knowBy_3 : List UInt8 := dkwX7_knowBy_3 ++ []
def dkwX7_knowBy_2 : List UInt8 := [42, 180, 0, 21, 29, 42, 29, 182, 0, 202, 84, 42, 180, 0, 21, 29, 51, 153, 0, 19, 42, 180, 0, 24]
abbrev dktX7_knowBy_2 : List UInt8 := dkwX7_knowBy_2 ++ dktX7_knowBy_3
def dkwX7_knowBy_1 : List UInt8 := [180, 0, 24, 29, 3, 79, 132, 3, 1, 167, 255, 240, 3, 62, 29, 42, 180, 0, 7, 4, 46, 162, 0, 45]
abbrev dktX7_knowBy_1 : List UInt8 := dkwX7_knowBy_1 ++ dktX7_knowBy_2
def dkwX7_knowBy_0 : List UInt8 := [42, 27, 181, 0, 188, 42, 28, 181, 0, 185, 42, 27, 182, 0, 199, 3, 62, 29, 16, 16, 162, 0, 16, 42]
abbrev dktX7_knowBy_0 : List UInt8 := dkwX7_knowBy_0 ++ dktX7_knowBy_1
theorem dksX7_knowBy_0 : cX7_knowBy.data.toList.drop 0 = dktX7_knowBy_0 := by decide +kernel
theorem dksX7_knowBy_1 : cX7_knowBy.data.toList.drop 24 = dktX7_knowBy_1 := dk_seg dksX7_knowBy_0 24 rfl rfl
theorem dksX7_knowBy_2 : cX7_knowBy.data.toList.drop 48 = dktX7_knowBy_2 := dk_seg dksX7_knowBy_1 24 rfl rfl
theorem dksX7_knowBy_3 : cX7_knowBy.data.toList.drop 72 = dktX7_knowBy_3 := dk_seg dksX7_knowBy_2 24 rfl rfl
theorem dX7_knowBy_0 : decode cX7_knowBy 0 = .ok (.aload_n 0, 1) := dk_42 (dk_at dksX7_knowBy_0 0 rfl rfl)
theorem dX7_knowBy_1 : decode cX7_knowBy 1 = .ok (.iload_n 1, 1) := dk_27 (dk_at dksX7_knowBy_0 1 rfl rfl)
theorem dX7_knowBy_2 : decode cX7_knowBy 2 = .ok (.putfield 188, 3) := dk_181 0 188 (dk_at dksX7_knowBy_0 2 rfl rfl)
theorem dX7_knowBy_5 : decode cX7_knowBy 5 = .ok (.aload_n 0, 1) := dk_42 (dk_at dksX7_knowBy_0 5 rfl rfl)
theorem dX7_knowBy_6 : decode cX7_knowBy 6 = .ok (.iload_n 2, 1) := dk_28 (dk_at dksX7_knowBy_0 6 rfl rfl)
theorem dX7_knowBy_7 : decode cX7_knowBy 7 = .ok (.putfield 185, 3) := dk_181 0 185 (dk_at dksX7_knowBy_0 7 rfl rfl)
theorem dX7_knowBy_10 : decode cX7_knowBy 10 = .ok (.aload_n 0, 1) := dk_42 (dk_at dksX7_knowBy_0 10 rfl rfl)
theorem dX7_knowBy_11 : decode cX7_knowBy 11 = .ok (.iload_n 1, 1) := dk_27 (dk_at dksX7_knowBy_0 11 rfl rfl)
theorem dX7_knowBy_12 : decode cX7_knowBy 12 = .ok (.invokevirtual 199, 3) := dk_182 0 199 (dk_at dksX7_knowBy_0 12 rfl rfl)
theorem dX7_knowBy_15 : decode cX7_knowBy 15 = .ok (.iconst 0, 1) := dk_3 (dk_at dksX7_knowBy_0 15 rfl rfl)
theorem dX7_knowBy_16 : decode cX7_knowBy 16 = .ok (.istore_n 3, 1) := dk_62 (dk_at dksX7_knowBy_0 16 rfl rfl)
theorem dX7_knowBy_17 : decode cX7_knowBy 17 = .ok (.iload_n 3, 1) := dk_29 (dk_at dksX7_knowBy_0 17 rfl rfl)
theorem dX7_knowBy_18 : decode cX7_knowBy 18 = .ok (.bipush 16, 2) := dk_16 16 (dk_at dksX7_knowBy_0 18 rfl rfl)
theorem dX7_knowBy_20 : decode cX7_knowBy 20 = .ok (.if_icmp .ge 16, 3) := dk_162 0 16 (dk_at dksX7_knowBy_0 20 rfl rfl)
theorem dX7_knowBy_23 : decode cX7_knowBy 23 = .ok (.aload_n 0, 1) := dk_42 (dk_at dksX7_knowBy_0 23 rfl rfl)
theorem dX7_knowBy_24 : decode cX7_knowBy 24 = .ok (.getfield 24, 3) := dk_180 0 24 (dk_at dksX7_knowBy_1 0 rfl rfl)
theorem dX7_knowBy_27 : decode cX7_knowBy 27 = .ok (.iload_n 3, 1) := dk_29 (dk_at dksX7_knowBy_1 3 rfl rfl)
theorem dX7_knowBy_28 : decode cX7_knowBy 28 = .ok (.iconst 0, 1) := dk_3 (dk_at dksX7_knowBy_1 4 rfl rfl)
theorem dX7_knowBy_29 : decode cX7_knowBy 29 = .ok (.iastore, 1) := dk_79 (dk_at dksX7_knowBy_1 5 rfl rfl)
theorem dX7_knowBy_30 : decode cX7_knowBy 30 = .ok (.iinc 3 1, 3) := dk_132 3 1 (dk_at dksX7_knowBy_1 6 rfl rfl)
theorem dX7_knowBy_33 : decode cX7_knowBy 33 = .ok (.goto (-16), 3) := dk_167 255 240 (dk_at dksX7_knowBy_1 9 rfl rfl)
theorem dX7_knowBy_36 : decode cX7_knowBy 36 = .ok (.iconst 0, 1) := dk_3 (dk_at dksX7_knowBy_1 12 rfl rfl)
theorem dX7_knowBy_37 : decode cX7_knowBy 37 = .ok (.istore_n 3, 1) := dk_62 (dk_at dksX7_knowBy_1 13 rfl rfl)
theorem dX7_knowBy_38 : decode cX7_knowBy 38 = .ok (.iload_n 3, 1) := dk_29 (dk_at dksX7_knowBy_1 14 rfl rfl)
theorem dX7_knowBy_39 : decode cX7_knowBy 39 = .ok (.aload_n 0, 1) := dk_42 (dk_at dksX7_knowBy_1 15 rfl rfl)
theorem dX7_knowBy_40 : decode cX7_knowBy 40 = .ok (.getfield 7, 3) := dk_180 0 7 (dk_at dksX7_knowBy_1 16 rfl rfl)
theorem dX7_knowBy_43 : decode cX7_knowBy 43 = .ok (.iconst 1, 1) := dk_4 (dk_at dksX7_knowBy_1 19 rfl rfl)
theorem dX7_knowBy_44 : decode cX7_knowBy 44 = .ok (.iaload, 1) := dk_46 (dk_at dksX7_knowBy_1 20 rfl rfl)
theorem dX7_knowBy_45 : decode cX7_knowBy 45 = .ok (.if_icmp .ge 45, 3) := dk_162 0 45 (dk_at dksX7_knowBy_1 21 rfl rfl)
theorem dX7_knowBy_48 : decode cX7_knowBy 48 = .ok (.aload_n 0, 1) := dk_42 (dk_at dksX7_knowBy_2 0 rfl rfl)
theorem dX7_knowBy_49 : decode cX7_knowBy 49 = .ok (.getfield 21, 3) := dk_180 0 21 (dk_at dksX7_knowBy_2 1 rfl rfl)
theorem dX7_knowBy_52 : decode cX7_knowBy 52 = .ok (.iload_n 3, 1) := dk_29 (dk_at dksX7_knowBy_2 4 rfl rfl)
theorem dX7_knowBy_53 : decode cX7_knowBy 53 = .ok (.aload_n 0, 1) := dk_42 (dk_at dksX7_knowBy_2 5 rfl rfl)
theorem dX7_knowBy_54 : decode cX7_knowBy 54 = .ok (.iload_n 3, 1) := dk_29 (dk_at dksX7_knowBy_2 6 rfl rfl)
theorem dX7_knowBy_55 : decode cX7_knowBy 55 = .ok (.invokevirtual 202, 3) := dk_182 0 202 (dk_at dksX7_knowBy_2 7 rfl rfl)
theorem dX7_knowBy_58 : decode cX7_knowBy 58 = .ok (.bastore, 1) := dk_84 (dk_at dksX7_knowBy_2 10 rfl rfl)
theorem dX7_knowBy_59 : decode cX7_knowBy 59 = .ok (.aload_n 0, 1) := dk_42 (dk_at dksX7_knowBy_2 11 rfl rfl)
theorem dX7_knowBy_60 : decode cX7_knowBy 60 = .ok (.getfield 21, 3) := dk_180 0 21 (dk_at dksX7_knowBy_2 12 rfl rfl)
theorem dX7_knowBy_63 : decode cX7_knowBy 63 = .ok (.iload_n 3, 1) := dk_29 (dk_at dksX7_knowBy_2 15 rfl rfl)
theorem dX7_knowBy_64 : decode cX7_knowBy 64 = .ok (.baload, 1) := dk_51 (dk_at dksX7_knowBy_2 16 rfl rfl)
theorem dX7_knowBy_65 : decode cX7_knowBy 65 = .ok (.ifCond .eq 19, 3) := dk_153 0 19 (dk_at dksX7_knowBy_2 17 rfl rfl)
theorem dX7_knowBy_68 : decode cX7_knowBy 68 = .ok (.aload_n 0, 1) := dk_42 (dk_at dksX7_knowBy_2 20 rfl rfl)
theorem dX7_knowBy_69 : decode cX7_knowBy 69 = .ok (.getfield 24, 3) := dk_180 0 24 (dk_at dksX7_knowBy_2 21 rfl rfl)
theorem dX7_knowBy_72 : decode cX7_knowBy 72 = .ok (.aload_n 0, 1) := dk_42 (dk_at dksX7_knowBy_3 0 rfl rfl)
theorem dX7_knowBy_73 : decode cX7_knowBy 73 = .ok (.iload_n 3, 1) := dk_29 (dk_at dksX7_knowBy_3 1 rfl rfl)
theorem dX7_knowBy_74 : decode cX7_knowBy 74 = .ok (.iload_n 1, 1) := dk_27 (dk_at dksX7_knowBy_3 2 rfl rfl)
theorem dX7_knowBy_75 : decode cX7_knowBy 75 = .ok (.iload_n 2, 1) := dk_28 (dk_at dksX7_knowBy_3 3 rfl rfl)
theorem dX7_knowBy_76 : decode cX7_knowBy 76 = .ok (.invokevirtual 181, 3) := dk_182 0 181 (dk_at dksX7_knowBy_3 4 rfl rfl)
theorem dX7_knowBy_79 : decode cX7_knowBy 79 = .ok (.dup2, 1) := dk_92 (dk_at dksX7_knowBy_3 7 rfl rfl)
theorem dX7_knowBy_80 : decode cX7_knowBy 80 = .ok (.iaload, 1) := dk_46 (dk_at dksX7_knowBy_3 8 rfl rfl)
theorem dX7_knowBy_81 : decode cX7_knowBy 81 = .ok (.iconst 1, 1) := dk_4 (dk_at dksX7_knowBy_3 9 rfl rfl)
theorem dX7_knowBy_82 : decode cX7_knowBy 82 = .ok (.iadd, 1) := dk_96 (dk_at dksX7_knowBy_3 10 rfl rfl)
theorem dX7_knowBy_83 : decode cX7_knowBy 83 = .ok (.iastore, 1) := dk_79 (dk_at dksX7_knowBy_3 11 rfl rfl)
theorem dX7_knowBy_84 : decode cX7_knowBy 84 = .ok (.iinc 3 1, 3) := dk_132 3 1 (dk_at dksX7_knowBy_3 12 rfl rfl)
theorem dX7_knowBy_87 : decode cX7_knowBy 87 = .ok (.goto (-49), 3) := dk_167 255 207 (dk_at dksX7_knowBy_3 15 rfl rfl)
theorem dX7_knowBy_90 : decode cX7_knowBy 90 = .ok (.return_, 1) := dk_177 (dk_at dksX7_knowBy_3 18 rfl rfl)
def dkwX7_like_1 : List UInt8 := [159, 0, 12, 42, 27, 28, 182, 0, 213, 167, 0, 4, 2, 172]
abbrev dktX7_like_1 : List UInt8 := dkwX7_like_1 ++ []
def dkwX7_like_0 : List UInt8 := [42, 3, 181, 0, 113, 42, 27, 182, 0, 172, 153, 0, 25, 42, 28, 182, 0, 172, 153, 0, 17, 27, 28]
abbrev dktX7_like_0 : List UInt8 := dkwX7_like_0 ++ dktX7_like_1
theorem dksX7_like_0 : cX7_like.data.toList.drop 0 = dktX7_like_0 := by decide +kernel
theorem dksX7_like_1 : cX7_like.data.toList.drop 23 = dktX7_like_1 := dk_seg dksX7_like_0 23 rfl rfl
theorem dX7_like_0 : decode cX7_like 0 = .ok (.aload_n 0, 1) := dk_42 (dk_at dksX7_like_0 0 rfl rfl)
theorem dX7_like_1 : decode cX7_like 1 = .ok (.iconst 0, 1) := dk_3 (dk_at dksX7_like_0 1 rfl rfl)
theorem dX7_like_2 : decode cX7_like 2 = .ok (.putfield 113, 3) := dk_181 0 113 (dk_at dksX7_like_0 2 rfl rfl)
theorem dX7_like_5 : decode cX7_like 5 = .ok (.aload_n 0, 1) := dk_42 (dk_at dksX7_like_0 5 rfl rfl)
theorem dX7_like_6 : decode cX7_like 6 = .ok (.iload_n 1, 1) := dk_27 (dk_at dksX7_like_0 6 rfl rfl)
theorem dX7_like_7 : decode cX7_like 7 = .ok (.invokevirtual 172, 3) := dk_182 0 172 (dk_at dksX7_like_0 7 rfl rfl)
theorem dX7_like_10 : decode cX7_like 10 = .ok (.ifCond .eq 25, 3) := dk_153 0 25 (dk_at dksX7_like_0 10 rfl rfl)
theorem dX7_like_13 : decode cX7_like 13 = .ok (.aload_n 0, 1) := dk_42 (dk_at dksX7_like_0 13 rfl rfl)
theorem dX7_like_14 : decode cX7_like 14 = .ok (.iload_n 2, 1) := dk_28 (dk_at dksX7_like_0 14 rfl rfl)
theorem dX7_like_15 : decode cX7_like 15 = .ok (.invokevirtual 172, 3) := dk_182 0 172 (dk_at dksX7_like_0 15 rfl rfl)
theorem dX7_like_18 : decode cX7_like 18 = .ok (.ifCond .eq 17, 3) := dk_153 0 17 (dk_at dksX7_like_0 18 rfl rfl)
theorem dX7_like_21 : decode cX7_like 21 = .ok (.iload_n 1, 1) := dk_27 (dk_at dksX7_like_0 21 rfl rfl)
theorem dX7_like_22 : decode cX7_like 22 = .ok (.iload_n 2, 1) := dk_28 (dk_at dksX7_like_0 22 rfl rfl)
theorem dX7_like_23 : decode cX7_like 23 = .ok (.if_icmp .eq 12, 3) := dk_159 0 12 (dk_at dksX7_like_1 0 rfl rfl)
theorem dX7_like_26 : decode cX7_like 26 = .ok (.aload_n 0, 1) := dk_42 (dk_at dksX7_like_1 3 rfl rfl)
theorem dX7_like_27 : decode cX7_like 27 = .ok (.iload_n 1, 1) := dk_27 (dk_at dksX7_like_1 4 rfl rfl)
theorem dX7_like_28 : decode cX7_like 28 = .ok (.iload_n 2, 1) := dk_28 (dk_at dksX7_like_1 5 rfl rfl)
theorem dX7_like_29 : decode cX7_like 29 = .ok (.invokevirtual 213, 3) := dk_182 0 213 (dk_at dksX7_like_1 6 rfl rfl)
theorem dX7_like_32 : decode cX7_like 32 = .ok (.goto 4, 3) := dk_167 0 4 (dk_at dksX7_like_1 9 rfl rfl)
theorem dX7_like_35 : decode cX7_like 35 = .ok (.iconst (-1), 1) := dk_2 (dk_at dksX7_like_1 12 rfl rfl)
theorem dX7_like_36 : decode cX7_like 36 = .ok (.ireturn, 1) := dk_172 (dk_at dksX7_like_1 13 rfl rfl)
def dkwX7_likeOf_5 : List UInt8 := [17, 0, 255, 126, 160, 0, 7, 4, 167, 0, 4, 3, 96, 54, 6, 132, 7, 248, 167, 255, 204, 21, 6, 172]
abbrev dktX7_likeOf_5 : List UInt8 := dkwX7_likeOf_5 ++ []
def dkwX7_likeOf_4 : List UInt8 := [7, 96, 46, 21, 7, 122, 17, 0, 255, 126, 42, 180, 0, 7, 21, 4, 7, 96, 46, 21, 7, 122]
abbrev dktX7_likeOf_4 : List UInt8 := dkwX7_likeOf_4 ++ dktX7_likeOf_5
def dkwX7_likeOf_3 : List UInt8 := [4, 167, 0, 4, 3, 96, 54, 6, 16, 24, 54, 7, 21, 7, 155, 0, 53, 21, 6, 42, 180, 0, 7, 29]
abbrev dktX7_likeOf_3 : List UInt8 := dkwX7_likeOf_3 ++ dktX7_likeOf_4
def dkwX7_likeOf_2 : List UInt8 := [46, 160, 0, 7, 4, 167, 0, 4, 3, 21, 5, 133, 20, 0, 209, 20, 0, 211, 184, 0, 121, 153, 0, 7]
abbrev dktX7_likeOf_2 : List UInt8 := dkwX7_likeOf_2 ++ dktX7_likeOf_3
def dkwX7_likeOf_1 : List UInt8 := [21, 4, 5, 96, 46, 100, 54, 5, 42, 180, 0, 7, 29, 4, 96, 46, 42, 180, 0, 7, 21, 4, 4, 96]
abbrev dktX7_likeOf_1 : List UInt8 := dkwX7_likeOf_1 ++ dktX7_likeOf_2
def dkwX7_likeOf_0 : List UInt8 := [27, 184, 0, 148, 62, 28, 184, 0, 148, 54, 4, 42, 180, 0, 7, 29, 5, 96, 46, 42, 180, 0, 7]
abbrev dktX7_likeOf_0 : List UInt8 := dkwX7_likeOf_0 ++ dktX7_likeOf_1
theorem dksX7_likeOf_0 : cX7_likeOf.data.toList.drop 0 = dktX7_likeOf_0 := by decide +kernel
theorem dksX7_likeOf_1 : cX7_likeOf.data.toList.drop 23 = dktX7_likeOf_1 := dk_seg dksX7_likeOf_0 23 rfl rfl
theorem dksX7_likeOf_2 : cX7_likeOf.data.toList.drop 47 = dktX7_likeOf_2 := dk_seg dksX7_likeOf_1 24 rfl rfl
theorem dksX7_likeOf_3 : cX7_likeOf.data.toList.drop 71 = dktX7_likeOf_3 := dk_seg dksX7_likeOf_2 24 rfl rfl
theorem dksX7_likeOf_4 : cX7_likeOf.data.toList.drop 95 = dktX7_likeOf_4 := dk_seg dksX7_likeOf_3 24 rfl rfl
theorem dksX7_likeOf_5 : cX7_likeOf.data.toList.drop 117 = dktX7_likeOf_5 := dk_seg dksX7_likeOf_4 22 rfl rfl
theorem dX7_likeOf_0 : decode cX7_likeOf 0 = .ok (.iload_n 1, 1) := dk_27 (dk_at dksX7_likeOf_0 0 rfl rfl)
theorem dX7_likeOf_1 : decode cX7_likeOf 1 = .ok (.invokestatic 148, 3) := dk_184 0 148 (dk_at dksX7_likeOf_0 1 rfl rfl)
theorem dX7_likeOf_4 : decode cX7_likeOf 4 = .ok (.istore_n 3, 1) := dk_62 (dk_at dksX7_likeOf_0 4 rfl rfl)
theorem dX7_likeOf_5 : decode cX7_likeOf 5 = .ok (.iload_n 2, 1) := dk_28 (dk_at dksX7_likeOf_0 5 rfl rfl)
theorem dX7_likeOf_6 : decode cX7_likeOf 6 = .ok (.invokestatic 148, 3) := dk_184 0 148 (dk_at dksX7_likeOf_0 6 rfl rfl)
theorem dX7_likeOf_9 : decode cX7_likeOf 9 = .ok (.istore 4, 2) := dk_54 4 (dk_at dksX7_likeOf_0 9 rfl rfl)
theorem dX7_likeOf_11 : decode cX7_likeOf 11 = .ok (.aload_n 0, 1) := dk_42 (dk_at dksX7_likeOf_0 11 rfl rfl)
theorem dX7_likeOf_12 : decode cX7_likeOf 12 = .ok (.getfield 7, 3) := dk_180 0 7 (dk_at dksX7_likeOf_0 12 rfl rfl)
theorem dX7_likeOf_15 : decode cX7_likeOf 15 = .ok (.iload_n 3, 1) := dk_29 (dk_at dksX7_likeOf_0 15 rfl rfl)
theorem dX7_likeOf_16 : decode cX7_likeOf 16 = .ok (.iconst 2, 1) := dk_5 (dk_at dksX7_likeOf_0 16 rfl rfl)
theorem dX7_likeOf_17 : decode cX7_likeOf 17 = .ok (.iadd, 1) := dk_96 (dk_at dksX7_likeOf_0 17 rfl rfl)
theorem dX7_likeOf_18 : decode cX7_likeOf 18 = .ok (.iaload, 1) := dk_46 (dk_at dksX7_likeOf_0 18 rfl rfl)
theorem dX7_likeOf_19 : decode cX7_likeOf 19 = .ok (.aload_n 0, 1) := dk_42 (dk_at dksX7_likeOf_0 19 rfl rfl)
theorem dX7_likeOf_20 : decode cX7_likeOf 20 = .ok (.getfield 7, 3) := dk_180 0 7 (dk_at dksX7_likeOf_0 20 rfl rfl)
theorem dX7_likeOf_23 : decode cX7_likeOf 23 = .ok (.iload 4, 2) := dk_21 4 (dk_at dksX7_likeOf_1 0 rfl rfl)
theorem dX7_likeOf_25 : decode cX7_likeOf 25 = .ok (.iconst 2, 1) := dk_5 (dk_at dksX7_likeOf_1 2 rfl rfl)
theorem dX7_likeOf_26 : decode cX7_likeOf 26 = .ok (.iadd, 1) := dk_96 (dk_at dksX7_likeOf_1 3 rfl rfl)
theorem dX7_likeOf_27 : decode cX7_likeOf 27 = .ok (.iaload, 1) := dk_46 (dk_at dksX7_likeOf_1 4 rfl rfl)
theorem dX7_likeOf_28 : decode cX7_likeOf 28 = .ok (.isub, 1) := dk_100 (dk_at dksX7_likeOf_1 5 rfl rfl)
theorem dX7_likeOf_29 : decode cX7_likeOf 29 = .ok (.istore 5, 2) := dk_54 5 (dk_at dksX7_likeOf_1 6 rfl rfl)
theorem dX7_likeOf_31 : decode cX7_likeOf 31 = .ok (.aload_n 0, 1) := dk_42 (dk_at dksX7_likeOf_1 8 rfl rfl)
theorem dX7_likeOf_32 : decode cX7_likeOf 32 = .ok (.getfield 7, 3) := dk_180 0 7 (dk_at dksX7_likeOf_1 9 rfl rfl)
theorem dX7_likeOf_35 : decode cX7_likeOf 35 = .ok (.iload_n 3, 1) := dk_29 (dk_at dksX7_likeOf_1 12 rfl rfl)
theorem dX7_likeOf_36 : decode cX7_likeOf 36 = .ok (.iconst 1, 1) := dk_4 (dk_at dksX7_likeOf_1 13 rfl rfl)
theorem dX7_likeOf_37 : decode cX7_likeOf 37 = .ok (.iadd, 1) := dk_96 (dk_at dksX7_likeOf_1 14 rfl rfl)
theorem dX7_likeOf_38 : decode cX7_likeOf 38 = .ok (.iaload, 1) := dk_46 (dk_at dksX7_likeOf_1 15 rfl rfl)
theorem dX7_likeOf_39 : decode cX7_likeOf 39 = .ok (.aload_n 0, 1) := dk_42 (dk_at dksX7_likeOf_1 16 rfl rfl)
theorem dX7_likeOf_40 : decode cX7_likeOf 40 = .ok (.getfield 7, 3) := dk_180 0 7 (dk_at dksX7_likeOf_1 17 rfl rfl)
theorem dX7_likeOf_43 : decode cX7_likeOf 43 = .ok (.iload 4, 2) := dk_21 4 (dk_at dksX7_likeOf_1 20 rfl rfl)
theorem dX7_likeOf_45 : decode cX7_likeOf 45 = .ok (.iconst 1, 1) := dk_4 (dk_at dksX7_likeOf_1 22 rfl rfl)
theorem dX7_likeOf_46 : decode cX7_likeOf 46 = .ok (.iadd, 1) := dk_96 (dk_at dksX7_likeOf_1 23 rfl rfl)
theorem dX7_likeOf_47 : decode cX7_likeOf 47 = .ok (.iaload, 1) := dk_46 (dk_at dksX7_likeOf_2 0 rfl rfl)
theorem dX7_likeOf_48 : decode cX7_likeOf 48 = .ok (.if_icmp .ne 7, 3) := dk_160 0 7 (dk_at dksX7_likeOf_2 1 rfl rfl)
theorem dX7_likeOf_51 : decode cX7_likeOf 51 = .ok (.iconst 1, 1) := dk_4 (dk_at dksX7_likeOf_2 4 rfl rfl)
theorem dX7_likeOf_52 : decode cX7_likeOf 52 = .ok (.goto 4, 3) := dk_167 0 4 (dk_at dksX7_likeOf_2 5 rfl rfl)
theorem dX7_likeOf_55 : decode cX7_likeOf 55 = .ok (.iconst 0, 1) := dk_3 (dk_at dksX7_likeOf_2 8 rfl rfl)
theorem dX7_likeOf_56 : decode cX7_likeOf 56 = .ok (.iload 5, 2) := dk_21 5 (dk_at dksX7_likeOf_2 9 rfl rfl)
theorem dX7_likeOf_58 : decode cX7_likeOf 58 = .ok (.i2l, 1) := dk_133 (dk_at dksX7_likeOf_2 11 rfl rfl)
theorem dX7_likeOf_59 : decode cX7_likeOf 59 = .ok (.ldc2_w 209, 3) := dk_20 0 209 (dk_at dksX7_likeOf_2 12 rfl rfl)
theorem dX7_likeOf_62 : decode cX7_likeOf 62 = .ok (.ldc2_w 211, 3) := dk_20 0 211 (dk_at dksX7_likeOf_2 15 rfl rfl)
theorem dX7_likeOf_65 : decode cX7_likeOf 65 = .ok (.invokestatic 121, 3) := dk_184 0 121 (dk_at dksX7_likeOf_2 18 rfl rfl)
theorem dX7_likeOf_68 : decode cX7_likeOf 68 = .ok (.ifCond .eq 7, 3) := dk_153 0 7 (dk_at dksX7_likeOf_2 21 rfl rfl)
theorem dX7_likeOf_71 : decode cX7_likeOf 71 = .ok (.iconst 1, 1) := dk_4 (dk_at dksX7_likeOf_3 0 rfl rfl)
theorem dX7_likeOf_72 : decode cX7_likeOf 72 = .ok (.goto 4, 3) := dk_167 0 4 (dk_at dksX7_likeOf_3 1 rfl rfl)
theorem dX7_likeOf_75 : decode cX7_likeOf 75 = .ok (.iconst 0, 1) := dk_3 (dk_at dksX7_likeOf_3 4 rfl rfl)
theorem dX7_likeOf_76 : decode cX7_likeOf 76 = .ok (.iadd, 1) := dk_96 (dk_at dksX7_likeOf_3 5 rfl rfl)
theorem dX7_likeOf_77 : decode cX7_likeOf 77 = .ok (.istore 6, 2) := dk_54 6 (dk_at dksX7_likeOf_3 6 rfl rfl)
theorem dX7_likeOf_79 : decode cX7_likeOf 79 = .ok (.bipush 24, 2) := dk_16 24 (dk_at dksX7_likeOf_3 8 rfl rfl)
theorem dX7_likeOf_81 : decode cX7_likeOf 81 = .ok (.istore 7, 2) := dk_54 7 (dk_at dksX7_likeOf_3 10 rfl rfl)
theorem dX7_likeOf_83 : decode cX7_likeOf 83 = .ok (.iload 7, 2) := dk_21 7 (dk_at dksX7_likeOf_3 12 rfl rfl)
theorem dX7_likeOf_85 : decode cX7_likeOf 85 = .ok (.ifCond .lt 53, 3) := dk_155 0 53 (dk_at dksX7_likeOf_3 14 rfl rfl)
theorem dX7_likeOf_88 : decode cX7_likeOf 88 = .ok (.iload 6, 2) := dk_21 6 (dk_at dksX7_likeOf_3 17 rfl rfl)
theorem dX7_likeOf_90 : decode cX7_likeOf 90 = .ok (.aload_n 0, 1) := dk_42 (dk_at dksX7_likeOf_3 19 rfl rfl)
theorem dX7_likeOf_91 : decode cX7_likeOf 91 = .ok (.getfield 7, 3) := dk_180 0 7 (dk_at dksX7_likeOf_3 20 rfl rfl)
theorem dX7_likeOf_94 : decode cX7_likeOf 94 = .ok (.iload_n 3, 1) := dk_29 (dk_at dksX7_likeOf_3 23 rfl rfl)
theorem dX7_likeOf_95 : decode cX7_likeOf 95 = .ok (.iconst 4, 1) := dk_7 (dk_at dksX7_likeOf_4 0 rfl rfl)
theorem dX7_likeOf_96 : decode cX7_likeOf 96 = .ok (.iadd, 1) := dk_96 (dk_at dksX7_likeOf_4 1 rfl rfl)
theorem dX7_likeOf_97 : decode cX7_likeOf 97 = .ok (.iaload, 1) := dk_46 (dk_at dksX7_likeOf_4 2 rfl rfl)
theorem dX7_likeOf_98 : decode cX7_likeOf 98 = .ok (.iload 7, 2) := dk_21 7 (dk_at dksX7_likeOf_4 3 rfl rfl)
theorem dX7_likeOf_100 : decode cX7_likeOf 100 = .ok (.ishr, 1) := dk_122 (dk_at dksX7_likeOf_4 5 rfl rfl)
theorem dX7_likeOf_101 : decode cX7_likeOf 101 = .ok (.sipush 255, 3) := dk_17 0 255 (dk_at dksX7_likeOf_4 6 rfl rfl)
theorem dX7_likeOf_104 : decode cX7_likeOf 104 = .ok (.iand, 1) := dk_126 (dk_at dksX7_likeOf_4 9 rfl rfl)
theorem dX7_likeOf_105 : decode cX7_likeOf 105 = .ok (.aload_n 0, 1) := dk_42 (dk_at dksX7_likeOf_4 10 rfl rfl)
theorem dX7_likeOf_106 : decode cX7_likeOf 106 = .ok (.getfield 7, 3) := dk_180 0 7 (dk_at dksX7_likeOf_4 11 rfl rfl)
theorem dX7_likeOf_109 : decode cX7_likeOf 109 = .ok (.iload 4, 2) := dk_21 4 (dk_at dksX7_likeOf_4 14 rfl rfl)
theorem dX7_likeOf_111 : decode cX7_likeOf 111 = .ok (.iconst 4, 1) := dk_7 (dk_at dksX7_likeOf_4 16 rfl rfl)
theorem dX7_likeOf_112 : decode cX7_likeOf 112 = .ok (.iadd, 1) := dk_96 (dk_at dksX7_likeOf_4 17 rfl rfl)
theorem dX7_likeOf_113 : decode cX7_likeOf 113 = .ok (.iaload, 1) := dk_46 (dk_at dksX7_likeOf_4 18 rfl rfl)
theorem dX7_likeOf_114 : decode cX7_likeOf 114 = .ok (.iload 7, 2) := dk_21 7 (dk_at dksX7_likeOf_4 19 rfl rfl)
theorem dX7_likeOf_116 : decode cX7_likeOf 116 = .ok (.ishr, 1) := dk_122 (dk_at dksX7_likeOf_4 21 rfl rfl)
theorem dX7_likeOf_117 : decode cX7_likeOf 117 = .ok (.sipush 255, 3) := dk_17 0 255 (dk_at dksX7_likeOf_5 0 rfl rfl)
theorem dX7_likeOf_120 : decode cX7_likeOf 120 = .ok (.iand, 1) := dk_126 (dk_at dksX7_likeOf_5 3 rfl rfl)
theorem dX7_likeOf_121 : decode cX7_likeOf 121 = .ok (.if_icmp .ne 7, 3) := dk_160 0 7 (dk_at dksX7_likeOf_5 4 rfl rfl)
theorem dX7_likeOf_124 : decode cX7_likeOf 124 = .ok (.iconst 1, 1) := dk_4 (dk_at dksX7_likeOf_5 7 rfl rfl)
theorem dX7_likeOf_125 : decode cX7_likeOf 125 = .ok (.goto 4, 3) := dk_167 0 4 (dk_at dksX7_likeOf_5 8 rfl rfl)
theorem dX7_likeOf_128 : decode cX7_likeOf 128 = .ok (.iconst 0, 1) := dk_3 (dk_at dksX7_likeOf_5 11 rfl rfl)
theorem dX7_likeOf_129 : decode cX7_likeOf 129 = .ok (.iadd, 1) := dk_96 (dk_at dksX7_likeOf_5 12 rfl rfl)
theorem dX7_likeOf_130 : decode cX7_likeOf 130 = .ok (.istore 6, 2) := dk_54 6 (dk_at dksX7_likeOf_5 13 rfl rfl)
theorem dX7_likeOf_132 : decode cX7_likeOf 132 = .ok (.iinc 7 (-8), 3) := dk_132 7 248 (dk_at dksX7_likeOf_5 15 rfl rfl)
theorem dX7_likeOf_135 : decode cX7_likeOf 135 = .ok (.goto (-52), 3) := dk_167 255 204 (dk_at dksX7_likeOf_5 18 rfl rfl)
theorem dX7_likeOf_138 : decode cX7_likeOf 138 = .ok (.iload 6, 2) := dk_21 6 (dk_at dksX7_likeOf_5 21 rfl rfl)
theorem dX7_likeOf_140 : decode cX7_likeOf 140 = .ok (.ireturn, 1) := dk_172 (dk_at dksX7_likeOf_5 23 rfl rfl)
def dkwX7_apart_5 : List UInt8 := [180, 0, 7, 16, 8, 92, 46, 4, 96, 79, 42, 42, 180, 0, 7, 16, 8, 46, 182, 0, 125, 172]
abbrev dktX7_apart_5 : List UInt8 := dkwX7_apart_5 ++ []
def dkwX7_apart_4 : List UInt8 := [42, 180, 0, 7, 16, 8, 46, 104, 96, 4, 96, 27, 28, 162, 0, 7, 28, 167, 0, 4, 27, 79, 42]
abbrev dktX7_apart_4 : List UInt8 := dkwX7_apart_4 ++ dktX7_apart_5
def dkwX7_apart_3 : List UInt8 := [16, 8, 46, 104, 96, 27, 28, 162, 0, 7, 27, 167, 0, 4, 28, 79, 42, 180, 0, 7, 17, 8, 220, 5]
abbrev dktX7_apart_3 : List UInt8 := dkwX7_apart_3 ++ dktX7_apart_4
def dkwX7_apart_2 : List UInt8 := [16, 40, 160, 0, 10, 42, 16, 251, 182, 0, 125, 172, 42, 180, 0, 7, 17, 8, 220, 5, 42, 180, 0, 7]
abbrev dktX7_apart_2 : List UInt8 := dkwX7_apart_2 ++ dktX7_apart_3
def dkwX7_apart_1 : List UInt8 := [182, 0, 125, 172, 27, 28, 160, 0, 10, 42, 16, 253, 182, 0, 125, 172, 42, 180, 0, 7, 16, 8, 46]
abbrev dktX7_apart_1 : List UInt8 := dkwX7_apart_1 ++ dktX7_apart_2
def dkwX7_apart_0 : List UInt8 := [42, 3, 181, 0, 113, 42, 27, 182, 0, 172, 153, 0, 11, 42, 28, 182, 0, 172, 154, 0, 10, 42, 16, 254]
abbrev dktX7_apart_0 : List UInt8 := dkwX7_apart_0 ++ dktX7_apart_1
theorem dksX7_apart_0 : cX7_apart.data.toList.drop 0 = dktX7_apart_0 := by decide +kernel
theorem dksX7_apart_1 : cX7_apart.data.toList.drop 24 = dktX7_apart_1 := dk_seg dksX7_apart_0 24 rfl rfl
theorem dksX7_apart_2 : cX7_apart.data.toList.drop 47 = dktX7_apart_2 := dk_seg dksX7_apart_1 23 rfl rfl
theorem dksX7_apart_3 : cX7_apart.data.toList.drop 71 = dktX7_apart_3 := dk_seg dksX7_apart_2 24 rfl rfl
theorem dksX7_apart_4 : cX7_apart.data.toList.drop 95 = dktX7_apart_4 := dk_seg dksX7_apart_3 24 rfl rfl
theorem dksX7_apart_5 : cX7_apart.data.toList.drop 118 = dktX7_apart_5 := dk_seg dksX7_apart_4 23 rfl rfl
theorem dX7_apart_0 : decode cX7_apart 0 = .ok (.aload_n 0, 1) := dk_42 (dk_at dksX7_apart_0 0 rfl rfl)
theorem dX7_apart_1 : decode cX7_apart 1 = .ok (.iconst 0, 1) := dk_3 (dk_at dksX7_apart_0 1 rfl rfl)
theorem dX7_apart_2 : decode cX7_apart 2 = .ok (.putfield 113, 3) := dk_181 0 113 (dk_at dksX7_apart_0 2 rfl rfl)
theorem dX7_apart_5 : decode cX7_apart 5 = .ok (.aload_n 0, 1) := dk_42 (dk_at dksX7_apart_0 5 rfl rfl)
theorem dX7_apart_6 : decode cX7_apart 6 = .ok (.iload_n 1, 1) := dk_27 (dk_at dksX7_apart_0 6 rfl rfl)
theorem dX7_apart_7 : decode cX7_apart 7 = .ok (.invokevirtual 172, 3) := dk_182 0 172 (dk_at dksX7_apart_0 7 rfl rfl)
theorem dX7_apart_10 : decode cX7_apart 10 = .ok (.ifCond .eq 11, 3) := dk_153 0 11 (dk_at dksX7_apart_0 10 rfl rfl)
theorem dX7_apart_13 : decode cX7_apart 13 = .ok (.aload_n 0, 1) := dk_42 (dk_at dksX7_apart_0 13 rfl rfl)
theorem dX7_apart_14 : decode cX7_apart 14 = .ok (.iload_n 2, 1) := dk_28 (dk_at dksX7_apart_0 14 rfl rfl)
theorem dX7_apart_15 : decode cX7_apart 15 = .ok (.invokevirtual 172, 3) := dk_182 0 172 (dk_at dksX7_apart_0 15 rfl rfl)
theorem dX7_apart_18 : decode cX7_apart 18 = .ok (.ifCond .ne 10, 3) := dk_154 0 10 (dk_at dksX7_apart_0 18 rfl rfl)
theorem dX7_apart_21 : decode cX7_apart 21 = .ok (.aload_n 0, 1) := dk_42 (dk_at dksX7_apart_0 21 rfl rfl)
theorem dX7_apart_22 : decode cX7_apart 22 = .ok (.bipush (-2), 2) := dk_16 254 (dk_at dksX7_apart_0 22 rfl rfl)
theorem dX7_apart_24 : decode cX7_apart 24 = .ok (.invokevirtual 125, 3) := dk_182 0 125 (dk_at dksX7_apart_1 0 rfl rfl)
theorem dX7_apart_27 : decode cX7_apart 27 = .ok (.ireturn, 1) := dk_172 (dk_at dksX7_apart_1 3 rfl rfl)
theorem dX7_apart_28 : decode cX7_apart 28 = .ok (.iload_n 1, 1) := dk_27 (dk_at dksX7_apart_1 4 rfl rfl)
theorem dX7_apart_29 : decode cX7_apart 29 = .ok (.iload_n 2, 1) := dk_28 (dk_at dksX7_apart_1 5 rfl rfl)
theorem dX7_apart_30 : decode cX7_apart 30 = .ok (.if_icmp .ne 10, 3) := dk_160 0 10 (dk_at dksX7_apart_1 6 rfl rfl)
theorem dX7_apart_33 : decode cX7_apart 33 = .ok (.aload_n 0, 1) := dk_42 (dk_at dksX7_apart_1 9 rfl rfl)
theorem dX7_apart_34 : decode cX7_apart 34 = .ok (.bipush (-3), 2) := dk_16 253 (dk_at dksX7_apart_1 10 rfl rfl)
theorem dX7_apart_36 : decode cX7_apart 36 = .ok (.invokevirtual 125, 3) := dk_182 0 125 (dk_at dksX7_apart_1 12 rfl rfl)
theorem dX7_apart_39 : decode cX7_apart 39 = .ok (.ireturn, 1) := dk_172 (dk_at dksX7_apart_1 15 rfl rfl)
theorem dX7_apart_40 : decode cX7_apart 40 = .ok (.aload_n 0, 1) := dk_42 (dk_at dksX7_apart_1 16 rfl rfl)
theorem dX7_apart_41 : decode cX7_apart 41 = .ok (.getfield 7, 3) := dk_180 0 7 (dk_at dksX7_apart_1 17 rfl rfl)
theorem dX7_apart_44 : decode cX7_apart 44 = .ok (.bipush 8, 2) := dk_16 8 (dk_at dksX7_apart_1 20 rfl rfl)
theorem dX7_apart_46 : decode cX7_apart 46 = .ok (.iaload, 1) := dk_46 (dk_at dksX7_apart_1 22 rfl rfl)
theorem dX7_apart_47 : decode cX7_apart 47 = .ok (.bipush 40, 2) := dk_16 40 (dk_at dksX7_apart_2 0 rfl rfl)
theorem dX7_apart_49 : decode cX7_apart 49 = .ok (.if_icmp .ne 10, 3) := dk_160 0 10 (dk_at dksX7_apart_2 2 rfl rfl)
theorem dX7_apart_52 : decode cX7_apart 52 = .ok (.aload_n 0, 1) := dk_42 (dk_at dksX7_apart_2 5 rfl rfl)
theorem dX7_apart_53 : decode cX7_apart 53 = .ok (.bipush (-5), 2) := dk_16 251 (dk_at dksX7_apart_2 6 rfl rfl)
theorem dX7_apart_55 : decode cX7_apart 55 = .ok (.invokevirtual 125, 3) := dk_182 0 125 (dk_at dksX7_apart_2 8 rfl rfl)
theorem dX7_apart_58 : decode cX7_apart 58 = .ok (.ireturn, 1) := dk_172 (dk_at dksX7_apart_2 11 rfl rfl)
theorem dX7_apart_59 : decode cX7_apart 59 = .ok (.aload_n 0, 1) := dk_42 (dk_at dksX7_apart_2 12 rfl rfl)
theorem dX7_apart_60 : decode cX7_apart 60 = .ok (.getfield 7, 3) := dk_180 0 7 (dk_at dksX7_apart_2 13 rfl rfl)
theorem dX7_apart_63 : decode cX7_apart 63 = .ok (.sipush 2268, 3) := dk_17 8 220 (dk_at dksX7_apart_2 16 rfl rfl)
theorem dX7_apart_66 : decode cX7_apart 66 = .ok (.iconst 2, 1) := dk_5 (dk_at dksX7_apart_2 19 rfl rfl)
theorem dX7_apart_67 : decode cX7_apart 67 = .ok (.aload_n 0, 1) := dk_42 (dk_at dksX7_apart_2 20 rfl rfl)
theorem dX7_apart_68 : decode cX7_apart 68 = .ok (.getfield 7, 3) := dk_180 0 7 (dk_at dksX7_apart_2 21 rfl rfl)
theorem dX7_apart_71 : decode cX7_apart 71 = .ok (.bipush 8, 2) := dk_16 8 (dk_at dksX7_apart_3 0 rfl rfl)
theorem dX7_apart_73 : decode cX7_apart 73 = .ok (.iaload, 1) := dk_46 (dk_at dksX7_apart_3 2 rfl rfl)
theorem dX7_apart_74 : decode cX7_apart 74 = .ok (.imul, 1) := dk_104 (dk_at dksX7_apart_3 3 rfl rfl)
theorem dX7_apart_75 : decode cX7_apart 75 = .ok (.iadd, 1) := dk_96 (dk_at dksX7_apart_3 4 rfl rfl)
theorem dX7_apart_76 : decode cX7_apart 76 = .ok (.iload_n 1, 1) := dk_27 (dk_at dksX7_apart_3 5 rfl rfl)
theorem dX7_apart_77 : decode cX7_apart 77 = .ok (.iload_n 2, 1) := dk_28 (dk_at dksX7_apart_3 6 rfl rfl)
theorem dX7_apart_78 : decode cX7_apart 78 = .ok (.if_icmp .ge 7, 3) := dk_162 0 7 (dk_at dksX7_apart_3 7 rfl rfl)
theorem dX7_apart_81 : decode cX7_apart 81 = .ok (.iload_n 1, 1) := dk_27 (dk_at dksX7_apart_3 10 rfl rfl)
theorem dX7_apart_82 : decode cX7_apart 82 = .ok (.goto 4, 3) := dk_167 0 4 (dk_at dksX7_apart_3 11 rfl rfl)
theorem dX7_apart_85 : decode cX7_apart 85 = .ok (.iload_n 2, 1) := dk_28 (dk_at dksX7_apart_3 14 rfl rfl)
theorem dX7_apart_86 : decode cX7_apart 86 = .ok (.iastore, 1) := dk_79 (dk_at dksX7_apart_3 15 rfl rfl)
theorem dX7_apart_87 : decode cX7_apart 87 = .ok (.aload_n 0, 1) := dk_42 (dk_at dksX7_apart_3 16 rfl rfl)
theorem dX7_apart_88 : decode cX7_apart 88 = .ok (.getfield 7, 3) := dk_180 0 7 (dk_at dksX7_apart_3 17 rfl rfl)
theorem dX7_apart_91 : decode cX7_apart 91 = .ok (.sipush 2268, 3) := dk_17 8 220 (dk_at dksX7_apart_3 20 rfl rfl)
theorem dX7_apart_94 : decode cX7_apart 94 = .ok (.iconst 2, 1) := dk_5 (dk_at dksX7_apart_3 23 rfl rfl)
theorem dX7_apart_95 : decode cX7_apart 95 = .ok (.aload_n 0, 1) := dk_42 (dk_at dksX7_apart_4 0 rfl rfl)
theorem dX7_apart_96 : decode cX7_apart 96 = .ok (.getfield 7, 3) := dk_180 0 7 (dk_at dksX7_apart_4 1 rfl rfl)
theorem dX7_apart_99 : decode cX7_apart 99 = .ok (.bipush 8, 2) := dk_16 8 (dk_at dksX7_apart_4 4 rfl rfl)
theorem dX7_apart_101 : decode cX7_apart 101 = .ok (.iaload, 1) := dk_46 (dk_at dksX7_apart_4 6 rfl rfl)
theorem dX7_apart_102 : decode cX7_apart 102 = .ok (.imul, 1) := dk_104 (dk_at dksX7_apart_4 7 rfl rfl)
theorem dX7_apart_103 : decode cX7_apart 103 = .ok (.iadd, 1) := dk_96 (dk_at dksX7_apart_4 8 rfl rfl)
theorem dX7_apart_104 : decode cX7_apart 104 = .ok (.iconst 1, 1) := dk_4 (dk_at dksX7_apart_4 9 rfl rfl)
theorem dX7_apart_105 : decode cX7_apart 105 = .ok (.iadd, 1) := dk_96 (dk_at dksX7_apart_4 10 rfl rfl)
theorem dX7_apart_106 : decode cX7_apart 106 = .ok (.iload_n 1, 1) := dk_27 (dk_at dksX7_apart_4 11 rfl rfl)
theorem dX7_apart_107 : decode cX7_apart 107 = .ok (.iload_n 2, 1) := dk_28 (dk_at dksX7_apart_4 12 rfl rfl)
theorem dX7_apart_108 : decode cX7_apart 108 = .ok (.if_icmp .ge 7, 3) := dk_162 0 7 (dk_at dksX7_apart_4 13 rfl rfl)
theorem dX7_apart_111 : decode cX7_apart 111 = .ok (.iload_n 2, 1) := dk_28 (dk_at dksX7_apart_4 16 rfl rfl)
theorem dX7_apart_112 : decode cX7_apart 112 = .ok (.goto 4, 3) := dk_167 0 4 (dk_at dksX7_apart_4 17 rfl rfl)
theorem dX7_apart_115 : decode cX7_apart 115 = .ok (.iload_n 1, 1) := dk_27 (dk_at dksX7_apart_4 20 rfl rfl)
theorem dX7_apart_116 : decode cX7_apart 116 = .ok (.iastore, 1) := dk_79 (dk_at dksX7_apart_4 21 rfl rfl)
theorem dX7_apart_117 : decode cX7_apart 117 = .ok (.aload_n 0, 1) := dk_42 (dk_at dksX7_apart_4 22 rfl rfl)
theorem dX7_apart_118 : decode cX7_apart 118 = .ok (.getfield 7, 3) := dk_180 0 7 (dk_at dksX7_apart_5 0 rfl rfl)
theorem dX7_apart_121 : decode cX7_apart 121 = .ok (.bipush 8, 2) := dk_16 8 (dk_at dksX7_apart_5 3 rfl rfl)
theorem dX7_apart_123 : decode cX7_apart 123 = .ok (.dup2, 1) := dk_92 (dk_at dksX7_apart_5 5 rfl rfl)
theorem dX7_apart_124 : decode cX7_apart 124 = .ok (.iaload, 1) := dk_46 (dk_at dksX7_apart_5 6 rfl rfl)
theorem dX7_apart_125 : decode cX7_apart 125 = .ok (.iconst 1, 1) := dk_4 (dk_at dksX7_apart_5 7 rfl rfl)
theorem dX7_apart_126 : decode cX7_apart 126 = .ok (.iadd, 1) := dk_96 (dk_at dksX7_apart_5 8 rfl rfl)
theorem dX7_apart_127 : decode cX7_apart 127 = .ok (.iastore, 1) := dk_79 (dk_at dksX7_apart_5 9 rfl rfl)
theorem dX7_apart_128 : decode cX7_apart 128 = .ok (.aload_n 0, 1) := dk_42 (dk_at dksX7_apart_5 10 rfl rfl)
theorem dX7_apart_129 : decode cX7_apart 129 = .ok (.aload_n 0, 1) := dk_42 (dk_at dksX7_apart_5 11 rfl rfl)
theorem dX7_apart_130 : decode cX7_apart 130 = .ok (.getfield 7, 3) := dk_180 0 7 (dk_at dksX7_apart_5 12 rfl rfl)
theorem dX7_apart_133 : decode cX7_apart 133 = .ok (.bipush 8, 2) := dk_16 8 (dk_at dksX7_apart_5 15 rfl rfl)
theorem dX7_apart_135 : decode cX7_apart 135 = .ok (.iaload, 1) := dk_46 (dk_at dksX7_apart_5 17 rfl rfl)
theorem dX7_apart_136 : decode cX7_apart 136 = .ok (.invokevirtual 125, 3) := dk_182 0 125 (dk_at dksX7_apart_5 18 rfl rfl)
theorem dX7_apart_139 : decode cX7_apart 139 = .ok (.ireturn, 1) := dk_172 (dk_at dksX7_apart_5 21 rfl rfl)
def dkwX7_twice_7 : List UInt8 := [160, 0, 8, 21, 4, 167, 0, 5, 21, 5, 172]
abbrev dktX7_twice_7 : List UInt8 := dkwX7_twice_7 ++ []
def dkwX7_twice_6 : List UInt8 := [167, 0, 5, 21, 5, 54, 5, 132, 4, 1, 132, 7, 1, 167, 255, 155, 132, 6, 1, 167, 255, 132, 29, 2]
abbrev dktX7_twice_6 : List UInt8 := dkwX7_twice_6 ++ dktX7_twice_7
def dkwX7_twice_5 : List UInt8 := [21, 7, 182, 0, 217, 154, 0, 28, 21, 4, 29, 160, 0, 15, 17, 0, 200, 21, 6, 104, 21, 7, 96]
abbrev dktX7_twice_5 : List UInt8 := dkwX7_twice_5 ++ dktX7_twice_6
def dkwX7_twice_4 : List UInt8 := [27, 28, 182, 0, 181, 159, 0, 51, 42, 21, 6, 21, 7, 182, 0, 213, 8, 161, 0, 39, 42, 21, 6]
abbrev dktX7_twice_4 : List UInt8 := dkwX7_twice_4 ++ dktX7_twice_5
def dkwX7_twice_3 : List UInt8 := [153, 0, 86, 42, 180, 0, 21, 21, 7, 51, 153, 0, 70, 42, 21, 6, 27, 28, 182, 0, 181, 42, 21, 7]
abbrev dktX7_twice_3 : List UInt8 := dkwX7_twice_3 ++ dktX7_twice_4
def dkwX7_twice_2 : List UInt8 := [21, 6, 4, 96, 54, 7, 21, 7, 42, 180, 0, 7, 4, 46, 162, 0, 96, 42, 180, 0, 21, 21, 6, 51]
abbrev dktX7_twice_2 : List UInt8 := dkwX7_twice_2 ++ dktX7_twice_3
def dkwX7_twice_1 : List UInt8 := [182, 0, 205, 3, 54, 4, 2, 54, 5, 3, 54, 6, 21, 6, 42, 180, 0, 7, 4, 46, 162, 0, 119]
abbrev dktX7_twice_1 : List UInt8 := dkwX7_twice_1 ++ dktX7_twice_2
def dkwX7_twice_0 : List UInt8 := [42, 3, 181, 0, 113, 27, 184, 0, 159, 153, 0, 10, 28, 184, 0, 159, 154, 0, 5, 2, 172, 42, 27, 28]
abbrev dktX7_twice_0 : List UInt8 := dkwX7_twice_0 ++ dktX7_twice_1
theorem dksX7_twice_0 : cX7_twice.data.toList.drop 0 = dktX7_twice_0 := by decide +kernel
theorem dksX7_twice_1 : cX7_twice.data.toList.drop 24 = dktX7_twice_1 := dk_seg dksX7_twice_0 24 rfl rfl
theorem dksX7_twice_2 : cX7_twice.data.toList.drop 47 = dktX7_twice_2 := dk_seg dksX7_twice_1 23 rfl rfl
theorem dksX7_twice_3 : cX7_twice.data.toList.drop 71 = dktX7_twice_3 := dk_seg dksX7_twice_2 24 rfl rfl
theorem dksX7_twice_4 : cX7_twice.data.toList.drop 95 = dktX7_twice_4 := dk_seg dksX7_twice_3 24 rfl rfl
theorem dksX7_twice_5 : cX7_twice.data.toList.drop 118 = dktX7_twice_5 := dk_seg dksX7_twice_4 23 rfl rfl
theorem dksX7_twice_6 : cX7_twice.data.toList.drop 141 = dktX7_twice_6 := dk_seg dksX7_twice_5 23 rfl rfl
theorem dksX7_twice_7 : cX7_twice.data.toList.drop 165 = dktX7_twice_7 := dk_seg dksX7_twice_6 24 rfl rfl
theorem dX7_twice_0 : decode cX7_twice 0 = .ok (.aload_n 0, 1) := dk_42 (dk_at dksX7_twice_0 0 rfl rfl)
theorem dX7_twice_1 : decode cX7_twice 1 = .ok (.iconst 0, 1) := dk_3 (dk_at dksX7_twice_0 1 rfl rfl)
theorem dX7_twice_2 : decode cX7_twice 2 = .ok (.putfield 113, 3) := dk_181 0 113 (dk_at dksX7_twice_0 2 rfl rfl)
theorem dX7_twice_5 : decode cX7_twice 5 = .ok (.iload_n 1, 1) := dk_27 (dk_at dksX7_twice_0 5 rfl rfl)
theorem dX7_twice_6 : decode cX7_twice 6 = .ok (.invokestatic 159, 3) := dk_184 0 159 (dk_at dksX7_twice_0 6 rfl rfl)
theorem dX7_twice_9 : decode cX7_twice 9 = .ok (.ifCond .eq 10, 3) := dk_153 0 10 (dk_at dksX7_twice_0 9 rfl rfl)
theorem dX7_twice_12 : decode cX7_twice 12 = .ok (.iload_n 2, 1) := dk_28 (dk_at dksX7_twice_0 12 rfl rfl)
theorem dX7_twice_13 : decode cX7_twice 13 = .ok (.invokestatic 159, 3) := dk_184 0 159 (dk_at dksX7_twice_0 13 rfl rfl)
theorem dX7_twice_16 : decode cX7_twice 16 = .ok (.ifCond .ne 5, 3) := dk_154 0 5 (dk_at dksX7_twice_0 16 rfl rfl)
theorem dX7_twice_19 : decode cX7_twice 19 = .ok (.iconst (-1), 1) := dk_2 (dk_at dksX7_twice_0 19 rfl rfl)
theorem dX7_twice_20 : decode cX7_twice 20 = .ok (.ireturn, 1) := dk_172 (dk_at dksX7_twice_0 20 rfl rfl)
theorem dX7_twice_21 : decode cX7_twice 21 = .ok (.aload_n 0, 1) := dk_42 (dk_at dksX7_twice_0 21 rfl rfl)
theorem dX7_twice_22 : decode cX7_twice 22 = .ok (.iload_n 1, 1) := dk_27 (dk_at dksX7_twice_0 22 rfl rfl)
theorem dX7_twice_23 : decode cX7_twice 23 = .ok (.iload_n 2, 1) := dk_28 (dk_at dksX7_twice_0 23 rfl rfl)
theorem dX7_twice_24 : decode cX7_twice 24 = .ok (.invokevirtual 205, 3) := dk_182 0 205 (dk_at dksX7_twice_1 0 rfl rfl)
theorem dX7_twice_27 : decode cX7_twice 27 = .ok (.iconst 0, 1) := dk_3 (dk_at dksX7_twice_1 3 rfl rfl)
theorem dX7_twice_28 : decode cX7_twice 28 = .ok (.istore 4, 2) := dk_54 4 (dk_at dksX7_twice_1 4 rfl rfl)
theorem dX7_twice_30 : decode cX7_twice 30 = .ok (.iconst (-1), 1) := dk_2 (dk_at dksX7_twice_1 6 rfl rfl)
theorem dX7_twice_31 : decode cX7_twice 31 = .ok (.istore 5, 2) := dk_54 5 (dk_at dksX7_twice_1 7 rfl rfl)
theorem dX7_twice_33 : decode cX7_twice 33 = .ok (.iconst 0, 1) := dk_3 (dk_at dksX7_twice_1 9 rfl rfl)
theorem dX7_twice_34 : decode cX7_twice 34 = .ok (.istore 6, 2) := dk_54 6 (dk_at dksX7_twice_1 10 rfl rfl)
theorem dX7_twice_36 : decode cX7_twice 36 = .ok (.iload 6, 2) := dk_21 6 (dk_at dksX7_twice_1 12 rfl rfl)
theorem dX7_twice_38 : decode cX7_twice 38 = .ok (.aload_n 0, 1) := dk_42 (dk_at dksX7_twice_1 14 rfl rfl)
theorem dX7_twice_39 : decode cX7_twice 39 = .ok (.getfield 7, 3) := dk_180 0 7 (dk_at dksX7_twice_1 15 rfl rfl)
theorem dX7_twice_42 : decode cX7_twice 42 = .ok (.iconst 1, 1) := dk_4 (dk_at dksX7_twice_1 18 rfl rfl)
theorem dX7_twice_43 : decode cX7_twice 43 = .ok (.iaload, 1) := dk_46 (dk_at dksX7_twice_1 19 rfl rfl)
theorem dX7_twice_44 : decode cX7_twice 44 = .ok (.if_icmp .ge 119, 3) := dk_162 0 119 (dk_at dksX7_twice_1 20 rfl rfl)
theorem dX7_twice_47 : decode cX7_twice 47 = .ok (.iload 6, 2) := dk_21 6 (dk_at dksX7_twice_2 0 rfl rfl)
theorem dX7_twice_49 : decode cX7_twice 49 = .ok (.iconst 1, 1) := dk_4 (dk_at dksX7_twice_2 2 rfl rfl)
theorem dX7_twice_50 : decode cX7_twice 50 = .ok (.iadd, 1) := dk_96 (dk_at dksX7_twice_2 3 rfl rfl)
theorem dX7_twice_51 : decode cX7_twice 51 = .ok (.istore 7, 2) := dk_54 7 (dk_at dksX7_twice_2 4 rfl rfl)
theorem dX7_twice_53 : decode cX7_twice 53 = .ok (.iload 7, 2) := dk_21 7 (dk_at dksX7_twice_2 6 rfl rfl)
theorem dX7_twice_55 : decode cX7_twice 55 = .ok (.aload_n 0, 1) := dk_42 (dk_at dksX7_twice_2 8 rfl rfl)
theorem dX7_twice_56 : decode cX7_twice 56 = .ok (.getfield 7, 3) := dk_180 0 7 (dk_at dksX7_twice_2 9 rfl rfl)
theorem dX7_twice_59 : decode cX7_twice 59 = .ok (.iconst 1, 1) := dk_4 (dk_at dksX7_twice_2 12 rfl rfl)
theorem dX7_twice_60 : decode cX7_twice 60 = .ok (.iaload, 1) := dk_46 (dk_at dksX7_twice_2 13 rfl rfl)
theorem dX7_twice_61 : decode cX7_twice 61 = .ok (.if_icmp .ge 96, 3) := dk_162 0 96 (dk_at dksX7_twice_2 14 rfl rfl)
theorem dX7_twice_64 : decode cX7_twice 64 = .ok (.aload_n 0, 1) := dk_42 (dk_at dksX7_twice_2 17 rfl rfl)
theorem dX7_twice_65 : decode cX7_twice 65 = .ok (.getfield 21, 3) := dk_180 0 21 (dk_at dksX7_twice_2 18 rfl rfl)
theorem dX7_twice_68 : decode cX7_twice 68 = .ok (.iload 6, 2) := dk_21 6 (dk_at dksX7_twice_2 21 rfl rfl)
theorem dX7_twice_70 : decode cX7_twice 70 = .ok (.baload, 1) := dk_51 (dk_at dksX7_twice_2 23 rfl rfl)
theorem dX7_twice_71 : decode cX7_twice 71 = .ok (.ifCond .eq 86, 3) := dk_153 0 86 (dk_at dksX7_twice_3 0 rfl rfl)
theorem dX7_twice_74 : decode cX7_twice 74 = .ok (.aload_n 0, 1) := dk_42 (dk_at dksX7_twice_3 3 rfl rfl)
theorem dX7_twice_75 : decode cX7_twice 75 = .ok (.getfield 21, 3) := dk_180 0 21 (dk_at dksX7_twice_3 4 rfl rfl)
theorem dX7_twice_78 : decode cX7_twice 78 = .ok (.iload 7, 2) := dk_21 7 (dk_at dksX7_twice_3 7 rfl rfl)
theorem dX7_twice_80 : decode cX7_twice 80 = .ok (.baload, 1) := dk_51 (dk_at dksX7_twice_3 9 rfl rfl)
theorem dX7_twice_81 : decode cX7_twice 81 = .ok (.ifCond .eq 70, 3) := dk_153 0 70 (dk_at dksX7_twice_3 10 rfl rfl)
theorem dX7_twice_84 : decode cX7_twice 84 = .ok (.aload_n 0, 1) := dk_42 (dk_at dksX7_twice_3 13 rfl rfl)
theorem dX7_twice_85 : decode cX7_twice 85 = .ok (.iload 6, 2) := dk_21 6 (dk_at dksX7_twice_3 14 rfl rfl)
theorem dX7_twice_87 : decode cX7_twice 87 = .ok (.iload_n 1, 1) := dk_27 (dk_at dksX7_twice_3 16 rfl rfl)
theorem dX7_twice_88 : decode cX7_twice 88 = .ok (.iload_n 2, 1) := dk_28 (dk_at dksX7_twice_3 17 rfl rfl)
theorem dX7_twice_89 : decode cX7_twice 89 = .ok (.invokevirtual 181, 3) := dk_182 0 181 (dk_at dksX7_twice_3 18 rfl rfl)
theorem dX7_twice_92 : decode cX7_twice 92 = .ok (.aload_n 0, 1) := dk_42 (dk_at dksX7_twice_3 21 rfl rfl)
theorem dX7_twice_93 : decode cX7_twice 93 = .ok (.iload 7, 2) := dk_21 7 (dk_at dksX7_twice_3 22 rfl rfl)
theorem dX7_twice_95 : decode cX7_twice 95 = .ok (.iload_n 1, 1) := dk_27 (dk_at dksX7_twice_4 0 rfl rfl)
theorem dX7_twice_96 : decode cX7_twice 96 = .ok (.iload_n 2, 1) := dk_28 (dk_at dksX7_twice_4 1 rfl rfl)
theorem dX7_twice_97 : decode cX7_twice 97 = .ok (.invokevirtual 181, 3) := dk_182 0 181 (dk_at dksX7_twice_4 2 rfl rfl)
theorem dX7_twice_100 : decode cX7_twice 100 = .ok (.if_icmp .eq 51, 3) := dk_159 0 51 (dk_at dksX7_twice_4 5 rfl rfl)
theorem dX7_twice_103 : decode cX7_twice 103 = .ok (.aload_n 0, 1) := dk_42 (dk_at dksX7_twice_4 8 rfl rfl)
theorem dX7_twice_104 : decode cX7_twice 104 = .ok (.iload 6, 2) := dk_21 6 (dk_at dksX7_twice_4 9 rfl rfl)
theorem dX7_twice_106 : decode cX7_twice 106 = .ok (.iload 7, 2) := dk_21 7 (dk_at dksX7_twice_4 11 rfl rfl)
theorem dX7_twice_108 : decode cX7_twice 108 = .ok (.invokevirtual 213, 3) := dk_182 0 213 (dk_at dksX7_twice_4 13 rfl rfl)
theorem dX7_twice_111 : decode cX7_twice 111 = .ok (.iconst 5, 1) := dk_8 (dk_at dksX7_twice_4 16 rfl rfl)
theorem dX7_twice_112 : decode cX7_twice 112 = .ok (.if_icmp .lt 39, 3) := dk_161 0 39 (dk_at dksX7_twice_4 17 rfl rfl)
theorem dX7_twice_115 : decode cX7_twice 115 = .ok (.aload_n 0, 1) := dk_42 (dk_at dksX7_twice_4 20 rfl rfl)
theorem dX7_twice_116 : decode cX7_twice 116 = .ok (.iload 6, 2) := dk_21 6 (dk_at dksX7_twice_4 21 rfl rfl)
theorem dX7_twice_118 : decode cX7_twice 118 = .ok (.iload 7, 2) := dk_21 7 (dk_at dksX7_twice_5 0 rfl rfl)
theorem dX7_twice_120 : decode cX7_twice 120 = .ok (.invokevirtual 217, 3) := dk_182 0 217 (dk_at dksX7_twice_5 2 rfl rfl)
theorem dX7_twice_123 : decode cX7_twice 123 = .ok (.ifCond .ne 28, 3) := dk_154 0 28 (dk_at dksX7_twice_5 5 rfl rfl)
theorem dX7_twice_126 : decode cX7_twice 126 = .ok (.iload 4, 2) := dk_21 4 (dk_at dksX7_twice_5 8 rfl rfl)
theorem dX7_twice_128 : decode cX7_twice 128 = .ok (.iload_n 3, 1) := dk_29 (dk_at dksX7_twice_5 10 rfl rfl)
theorem dX7_twice_129 : decode cX7_twice 129 = .ok (.if_icmp .ne 15, 3) := dk_160 0 15 (dk_at dksX7_twice_5 11 rfl rfl)
theorem dX7_twice_132 : decode cX7_twice 132 = .ok (.sipush 200, 3) := dk_17 0 200 (dk_at dksX7_twice_5 14 rfl rfl)
theorem dX7_twice_135 : decode cX7_twice 135 = .ok (.iload 6, 2) := dk_21 6 (dk_at dksX7_twice_5 17 rfl rfl)
theorem dX7_twice_137 : decode cX7_twice 137 = .ok (.imul, 1) := dk_104 (dk_at dksX7_twice_5 19 rfl rfl)
theorem dX7_twice_138 : decode cX7_twice 138 = .ok (.iload 7, 2) := dk_21 7 (dk_at dksX7_twice_5 20 rfl rfl)
theorem dX7_twice_140 : decode cX7_twice 140 = .ok (.iadd, 1) := dk_96 (dk_at dksX7_twice_5 22 rfl rfl)
theorem dX7_twice_141 : decode cX7_twice 141 = .ok (.goto 5, 3) := dk_167 0 5 (dk_at dksX7_twice_6 0 rfl rfl)
theorem dX7_twice_144 : decode cX7_twice 144 = .ok (.iload 5, 2) := dk_21 5 (dk_at dksX7_twice_6 3 rfl rfl)
theorem dX7_twice_146 : decode cX7_twice 146 = .ok (.istore 5, 2) := dk_54 5 (dk_at dksX7_twice_6 5 rfl rfl)
theorem dX7_twice_148 : decode cX7_twice 148 = .ok (.iinc 4 1, 3) := dk_132 4 1 (dk_at dksX7_twice_6 7 rfl rfl)
theorem dX7_twice_151 : decode cX7_twice 151 = .ok (.iinc 7 1, 3) := dk_132 7 1 (dk_at dksX7_twice_6 10 rfl rfl)
theorem dX7_twice_154 : decode cX7_twice 154 = .ok (.goto (-101), 3) := dk_167 255 155 (dk_at dksX7_twice_6 13 rfl rfl)
theorem dX7_twice_157 : decode cX7_twice 157 = .ok (.iinc 6 1, 3) := dk_132 6 1 (dk_at dksX7_twice_6 16 rfl rfl)
theorem dX7_twice_160 : decode cX7_twice 160 = .ok (.goto (-124), 3) := dk_167 255 132 (dk_at dksX7_twice_6 19 rfl rfl)
theorem dX7_twice_163 : decode cX7_twice 163 = .ok (.iload_n 3, 1) := dk_29 (dk_at dksX7_twice_6 22 rfl rfl)
theorem dX7_twice_164 : decode cX7_twice 164 = .ok (.iconst (-1), 1) := dk_2 (dk_at dksX7_twice_6 23 rfl rfl)
theorem dX7_twice_165 : decode cX7_twice 165 = .ok (.if_icmp .ne 8, 3) := dk_160 0 8 (dk_at dksX7_twice_7 0 rfl rfl)
theorem dX7_twice_168 : decode cX7_twice 168 = .ok (.iload 4, 2) := dk_21 4 (dk_at dksX7_twice_7 3 rfl rfl)
theorem dX7_twice_170 : decode cX7_twice 170 = .ok (.goto 5, 3) := dk_167 0 5 (dk_at dksX7_twice_7 5 rfl rfl)
theorem dX7_twice_173 : decode cX7_twice 173 = .ok (.iload 5, 2) := dk_21 5 (dk_at dksX7_twice_7 8 rfl rfl)
theorem dX7_twice_175 : decode cX7_twice 175 = .ok (.ireturn, 1) := dk_172 (dk_at dksX7_twice_7 10 rfl rfl)
def dkwX7_isBarred_3 : List UInt8 := [172]
abbrev dktX7_isBarred_3 : List UInt8 := dkwX7_isBarred_3 ++ []
def dkwX7_isBarred_2 : List UInt8 := [21, 4, 104, 96, 4, 96, 46, 28, 160, 0, 7, 4, 167, 0, 4, 3, 62, 132, 4, 1, 167, 255, 195, 29]
abbrev dktX7_isBarred_2 : List UInt8 := dkwX7_isBarred_2 ++ dktX7_isBarred_3
def dkwX7_isBarred_1 : List UInt8 := [180, 0, 7, 17, 8, 220, 5, 21, 4, 104, 96, 46, 27, 160, 0, 26, 42, 180, 0, 7, 17, 8, 220, 5]
abbrev dktX7_isBarred_1 : List UInt8 := dkwX7_isBarred_1 ++ dktX7_isBarred_2
def dkwX7_isBarred_0 : List UInt8 := [3, 62, 3, 54, 4, 21, 4, 42, 180, 0, 7, 16, 8, 46, 162, 0, 55, 29, 154, 0, 39, 42]
abbrev dktX7_isBarred_0 : List UInt8 := dkwX7_isBarred_0 ++ dktX7_isBarred_1
theorem dksX7_isBarred_0 : cX7_isBarred.data.toList.drop 0 = dktX7_isBarred_0 := by decide +kernel
theorem dksX7_isBarred_1 : cX7_isBarred.data.toList.drop 22 = dktX7_isBarred_1 := dk_seg dksX7_isBarred_0 22 rfl rfl
theorem dksX7_isBarred_2 : cX7_isBarred.data.toList.drop 46 = dktX7_isBarred_2 := dk_seg dksX7_isBarred_1 24 rfl rfl
theorem dksX7_isBarred_3 : cX7_isBarred.data.toList.drop 70 = dktX7_isBarred_3 := dk_seg dksX7_isBarred_2 24 rfl rfl
theorem dX7_isBarred_0 : decode cX7_isBarred 0 = .ok (.iconst 0, 1) := dk_3 (dk_at dksX7_isBarred_0 0 rfl rfl)
theorem dX7_isBarred_1 : decode cX7_isBarred 1 = .ok (.istore_n 3, 1) := dk_62 (dk_at dksX7_isBarred_0 1 rfl rfl)
theorem dX7_isBarred_2 : decode cX7_isBarred 2 = .ok (.iconst 0, 1) := dk_3 (dk_at dksX7_isBarred_0 2 rfl rfl)
theorem dX7_isBarred_3 : decode cX7_isBarred 3 = .ok (.istore 4, 2) := dk_54 4 (dk_at dksX7_isBarred_0 3 rfl rfl)
theorem dX7_isBarred_5 : decode cX7_isBarred 5 = .ok (.iload 4, 2) := dk_21 4 (dk_at dksX7_isBarred_0 5 rfl rfl)
theorem dX7_isBarred_7 : decode cX7_isBarred 7 = .ok (.aload_n 0, 1) := dk_42 (dk_at dksX7_isBarred_0 7 rfl rfl)
theorem dX7_isBarred_8 : decode cX7_isBarred 8 = .ok (.getfield 7, 3) := dk_180 0 7 (dk_at dksX7_isBarred_0 8 rfl rfl)
theorem dX7_isBarred_11 : decode cX7_isBarred 11 = .ok (.bipush 8, 2) := dk_16 8 (dk_at dksX7_isBarred_0 11 rfl rfl)
theorem dX7_isBarred_13 : decode cX7_isBarred 13 = .ok (.iaload, 1) := dk_46 (dk_at dksX7_isBarred_0 13 rfl rfl)
theorem dX7_isBarred_14 : decode cX7_isBarred 14 = .ok (.if_icmp .ge 55, 3) := dk_162 0 55 (dk_at dksX7_isBarred_0 14 rfl rfl)
theorem dX7_isBarred_17 : decode cX7_isBarred 17 = .ok (.iload_n 3, 1) := dk_29 (dk_at dksX7_isBarred_0 17 rfl rfl)
theorem dX7_isBarred_18 : decode cX7_isBarred 18 = .ok (.ifCond .ne 39, 3) := dk_154 0 39 (dk_at dksX7_isBarred_0 18 rfl rfl)
theorem dX7_isBarred_21 : decode cX7_isBarred 21 = .ok (.aload_n 0, 1) := dk_42 (dk_at dksX7_isBarred_0 21 rfl rfl)
theorem dX7_isBarred_22 : decode cX7_isBarred 22 = .ok (.getfield 7, 3) := dk_180 0 7 (dk_at dksX7_isBarred_1 0 rfl rfl)
theorem dX7_isBarred_25 : decode cX7_isBarred 25 = .ok (.sipush 2268, 3) := dk_17 8 220 (dk_at dksX7_isBarred_1 3 rfl rfl)
theorem dX7_isBarred_28 : decode cX7_isBarred 28 = .ok (.iconst 2, 1) := dk_5 (dk_at dksX7_isBarred_1 6 rfl rfl)
theorem dX7_isBarred_29 : decode cX7_isBarred 29 = .ok (.iload 4, 2) := dk_21 4 (dk_at dksX7_isBarred_1 7 rfl rfl)
theorem dX7_isBarred_31 : decode cX7_isBarred 31 = .ok (.imul, 1) := dk_104 (dk_at dksX7_isBarred_1 9 rfl rfl)
theorem dX7_isBarred_32 : decode cX7_isBarred 32 = .ok (.iadd, 1) := dk_96 (dk_at dksX7_isBarred_1 10 rfl rfl)
theorem dX7_isBarred_33 : decode cX7_isBarred 33 = .ok (.iaload, 1) := dk_46 (dk_at dksX7_isBarred_1 11 rfl rfl)
theorem dX7_isBarred_34 : decode cX7_isBarred 34 = .ok (.iload_n 1, 1) := dk_27 (dk_at dksX7_isBarred_1 12 rfl rfl)
theorem dX7_isBarred_35 : decode cX7_isBarred 35 = .ok (.if_icmp .ne 26, 3) := dk_160 0 26 (dk_at dksX7_isBarred_1 13 rfl rfl)
theorem dX7_isBarred_38 : decode cX7_isBarred 38 = .ok (.aload_n 0, 1) := dk_42 (dk_at dksX7_isBarred_1 16 rfl rfl)
theorem dX7_isBarred_39 : decode cX7_isBarred 39 = .ok (.getfield 7, 3) := dk_180 0 7 (dk_at dksX7_isBarred_1 17 rfl rfl)
theorem dX7_isBarred_42 : decode cX7_isBarred 42 = .ok (.sipush 2268, 3) := dk_17 8 220 (dk_at dksX7_isBarred_1 20 rfl rfl)
theorem dX7_isBarred_45 : decode cX7_isBarred 45 = .ok (.iconst 2, 1) := dk_5 (dk_at dksX7_isBarred_1 23 rfl rfl)
theorem dX7_isBarred_46 : decode cX7_isBarred 46 = .ok (.iload 4, 2) := dk_21 4 (dk_at dksX7_isBarred_2 0 rfl rfl)
theorem dX7_isBarred_48 : decode cX7_isBarred 48 = .ok (.imul, 1) := dk_104 (dk_at dksX7_isBarred_2 2 rfl rfl)
theorem dX7_isBarred_49 : decode cX7_isBarred 49 = .ok (.iadd, 1) := dk_96 (dk_at dksX7_isBarred_2 3 rfl rfl)
theorem dX7_isBarred_50 : decode cX7_isBarred 50 = .ok (.iconst 1, 1) := dk_4 (dk_at dksX7_isBarred_2 4 rfl rfl)
theorem dX7_isBarred_51 : decode cX7_isBarred 51 = .ok (.iadd, 1) := dk_96 (dk_at dksX7_isBarred_2 5 rfl rfl)
theorem dX7_isBarred_52 : decode cX7_isBarred 52 = .ok (.iaload, 1) := dk_46 (dk_at dksX7_isBarred_2 6 rfl rfl)
theorem dX7_isBarred_53 : decode cX7_isBarred 53 = .ok (.iload_n 2, 1) := dk_28 (dk_at dksX7_isBarred_2 7 rfl rfl)
theorem dX7_isBarred_54 : decode cX7_isBarred 54 = .ok (.if_icmp .ne 7, 3) := dk_160 0 7 (dk_at dksX7_isBarred_2 8 rfl rfl)
theorem dX7_isBarred_57 : decode cX7_isBarred 57 = .ok (.iconst 1, 1) := dk_4 (dk_at dksX7_isBarred_2 11 rfl rfl)
theorem dX7_isBarred_58 : decode cX7_isBarred 58 = .ok (.goto 4, 3) := dk_167 0 4 (dk_at dksX7_isBarred_2 12 rfl rfl)
theorem dX7_isBarred_61 : decode cX7_isBarred 61 = .ok (.iconst 0, 1) := dk_3 (dk_at dksX7_isBarred_2 15 rfl rfl)
theorem dX7_isBarred_62 : decode cX7_isBarred 62 = .ok (.istore_n 3, 1) := dk_62 (dk_at dksX7_isBarred_2 16 rfl rfl)
theorem dX7_isBarred_63 : decode cX7_isBarred 63 = .ok (.iinc 4 1, 3) := dk_132 4 1 (dk_at dksX7_isBarred_2 17 rfl rfl)
theorem dX7_isBarred_66 : decode cX7_isBarred 66 = .ok (.goto (-61), 3) := dk_167 255 195 (dk_at dksX7_isBarred_2 20 rfl rfl)
theorem dX7_isBarred_69 : decode cX7_isBarred 69 = .ok (.iload_n 3, 1) := dk_29 (dk_at dksX7_isBarred_2 23 rfl rfl)
theorem dX7_isBarred_70 : decode cX7_isBarred 70 = .ok (.ireturn, 1) := dk_172 (dk_at dksX7_isBarred_3 0 rfl rfl)
def dkwX7_feed_2 : List UInt8 := [182, 0, 220, 42, 180, 0, 169, 172]
abbrev dktX7_feed_2 : List UInt8 := dkwX7_feed_2 ++ []
def dkwX7_feed_1 : List UInt8 := [182, 0, 220, 42, 28, 182, 0, 220, 42, 29, 182, 0, 220, 42, 21, 4, 182, 0, 220, 42, 21, 5]
abbrev dktX7_feed_1 : List UInt8 := dkwX7_feed_1 ++ dktX7_feed_2
def dkwX7_feed_0 : List UInt8 := [42, 3, 181, 0, 113, 42, 180, 0, 169, 16, 20, 96, 17, 1, 144, 164, 0, 5, 2, 172, 42, 27]
abbrev dktX7_feed_0 : List UInt8 := dkwX7_feed_0 ++ dktX7_feed_1
theorem dksX7_feed_0 : cX7_feed.data.toList.drop 0 = dktX7_feed_0 := by decide +kernel
theorem dksX7_feed_1 : cX7_feed.data.toList.drop 22 = dktX7_feed_1 := dk_seg dksX7_feed_0 22 rfl rfl
theorem dksX7_feed_2 : cX7_feed.data.toList.drop 44 = dktX7_feed_2 := dk_seg dksX7_feed_1 22 rfl rfl
theorem dX7_feed_0 : decode cX7_feed 0 = .ok (.aload_n 0, 1) := dk_42 (dk_at dksX7_feed_0 0 rfl rfl)
theorem dX7_feed_1 : decode cX7_feed 1 = .ok (.iconst 0, 1) := dk_3 (dk_at dksX7_feed_0 1 rfl rfl)
theorem dX7_feed_2 : decode cX7_feed 2 = .ok (.putfield 113, 3) := dk_181 0 113 (dk_at dksX7_feed_0 2 rfl rfl)
theorem dX7_feed_5 : decode cX7_feed 5 = .ok (.aload_n 0, 1) := dk_42 (dk_at dksX7_feed_0 5 rfl rfl)
theorem dX7_feed_6 : decode cX7_feed 6 = .ok (.getfield 169, 3) := dk_180 0 169 (dk_at dksX7_feed_0 6 rfl rfl)
theorem dX7_feed_9 : decode cX7_feed 9 = .ok (.bipush 20, 2) := dk_16 20 (dk_at dksX7_feed_0 9 rfl rfl)
theorem dX7_feed_11 : decode cX7_feed 11 = .ok (.iadd, 1) := dk_96 (dk_at dksX7_feed_0 11 rfl rfl)
theorem dX7_feed_12 : decode cX7_feed 12 = .ok (.sipush 400, 3) := dk_17 1 144 (dk_at dksX7_feed_0 12 rfl rfl)
theorem dX7_feed_15 : decode cX7_feed 15 = .ok (.if_icmp .le 5, 3) := dk_164 0 5 (dk_at dksX7_feed_0 15 rfl rfl)
theorem dX7_feed_18 : decode cX7_feed 18 = .ok (.iconst (-1), 1) := dk_2 (dk_at dksX7_feed_0 18 rfl rfl)
theorem dX7_feed_19 : decode cX7_feed 19 = .ok (.ireturn, 1) := dk_172 (dk_at dksX7_feed_0 19 rfl rfl)
theorem dX7_feed_20 : decode cX7_feed 20 = .ok (.aload_n 0, 1) := dk_42 (dk_at dksX7_feed_0 20 rfl rfl)
theorem dX7_feed_21 : decode cX7_feed 21 = .ok (.iload_n 1, 1) := dk_27 (dk_at dksX7_feed_0 21 rfl rfl)
theorem dX7_feed_22 : decode cX7_feed 22 = .ok (.invokevirtual 220, 3) := dk_182 0 220 (dk_at dksX7_feed_1 0 rfl rfl)
theorem dX7_feed_25 : decode cX7_feed 25 = .ok (.aload_n 0, 1) := dk_42 (dk_at dksX7_feed_1 3 rfl rfl)
theorem dX7_feed_26 : decode cX7_feed 26 = .ok (.iload_n 2, 1) := dk_28 (dk_at dksX7_feed_1 4 rfl rfl)
theorem dX7_feed_27 : decode cX7_feed 27 = .ok (.invokevirtual 220, 3) := dk_182 0 220 (dk_at dksX7_feed_1 5 rfl rfl)
theorem dX7_feed_30 : decode cX7_feed 30 = .ok (.aload_n 0, 1) := dk_42 (dk_at dksX7_feed_1 8 rfl rfl)
theorem dX7_feed_31 : decode cX7_feed 31 = .ok (.iload_n 3, 1) := dk_29 (dk_at dksX7_feed_1 9 rfl rfl)
theorem dX7_feed_32 : decode cX7_feed 32 = .ok (.invokevirtual 220, 3) := dk_182 0 220 (dk_at dksX7_feed_1 10 rfl rfl)
theorem dX7_feed_35 : decode cX7_feed 35 = .ok (.aload_n 0, 1) := dk_42 (dk_at dksX7_feed_1 13 rfl rfl)
theorem dX7_feed_36 : decode cX7_feed 36 = .ok (.iload 4, 2) := dk_21 4 (dk_at dksX7_feed_1 14 rfl rfl)
theorem dX7_feed_38 : decode cX7_feed 38 = .ok (.invokevirtual 220, 3) := dk_182 0 220 (dk_at dksX7_feed_1 16 rfl rfl)
theorem dX7_feed_41 : decode cX7_feed 41 = .ok (.aload_n 0, 1) := dk_42 (dk_at dksX7_feed_1 19 rfl rfl)
theorem dX7_feed_42 : decode cX7_feed 42 = .ok (.iload 5, 2) := dk_21 5 (dk_at dksX7_feed_1 20 rfl rfl)
theorem dX7_feed_44 : decode cX7_feed 44 = .ok (.invokevirtual 220, 3) := dk_182 0 220 (dk_at dksX7_feed_2 0 rfl rfl)
theorem dX7_feed_47 : decode cX7_feed 47 = .ok (.aload_n 0, 1) := dk_42 (dk_at dksX7_feed_2 3 rfl rfl)
theorem dX7_feed_48 : decode cX7_feed 48 = .ok (.getfield 169, 3) := dk_180 0 169 (dk_at dksX7_feed_2 4 rfl rfl)
theorem dX7_feed_51 : decode cX7_feed 51 = .ok (.ireturn, 1) := dk_172 (dk_at dksX7_feed_2 7 rfl rfl)
def dkwX7_four_1 : List UInt8 := [89, 180, 0, 169, 4, 96, 181, 0, 169, 132, 2, 248, 167, 255, 223, 177]
abbrev dktX7_four_1 : List UInt8 := dkwX7_four_1 ++ []
def dkwX7_four_0 : List UInt8 := [16, 24, 61, 28, 155, 0, 35, 42, 180, 0, 27, 42, 180, 0, 169, 27, 28, 122, 17, 0, 255, 126, 79, 42]
abbrev dktX7_four_0 : List UInt8 := dkwX7_four_0 ++ dktX7_four_1
theorem dksX7_four_0 : cX7_four.data.toList.drop 0 = dktX7_four_0 := by decide +kernel
theorem dksX7_four_1 : cX7_four.data.toList.drop 24 = dktX7_four_1 := dk_seg dksX7_four_0 24 rfl rfl
theorem dX7_four_0 : decode cX7_four 0 = .ok (.bipush 24, 2) := dk_16 24 (dk_at dksX7_four_0 0 rfl rfl)
theorem dX7_four_2 : decode cX7_four 2 = .ok (.istore_n 2, 1) := dk_61 (dk_at dksX7_four_0 2 rfl rfl)
theorem dX7_four_3 : decode cX7_four 3 = .ok (.iload_n 2, 1) := dk_28 (dk_at dksX7_four_0 3 rfl rfl)
theorem dX7_four_4 : decode cX7_four 4 = .ok (.ifCond .lt 35, 3) := dk_155 0 35 (dk_at dksX7_four_0 4 rfl rfl)
theorem dX7_four_7 : decode cX7_four 7 = .ok (.aload_n 0, 1) := dk_42 (dk_at dksX7_four_0 7 rfl rfl)
theorem dX7_four_8 : decode cX7_four 8 = .ok (.getfield 27, 3) := dk_180 0 27 (dk_at dksX7_four_0 8 rfl rfl)
theorem dX7_four_11 : decode cX7_four 11 = .ok (.aload_n 0, 1) := dk_42 (dk_at dksX7_four_0 11 rfl rfl)
theorem dX7_four_12 : decode cX7_four 12 = .ok (.getfield 169, 3) := dk_180 0 169 (dk_at dksX7_four_0 12 rfl rfl)
theorem dX7_four_15 : decode cX7_four 15 = .ok (.iload_n 1, 1) := dk_27 (dk_at dksX7_four_0 15 rfl rfl)
theorem dX7_four_16 : decode cX7_four 16 = .ok (.iload_n 2, 1) := dk_28 (dk_at dksX7_four_0 16 rfl rfl)
theorem dX7_four_17 : decode cX7_four 17 = .ok (.ishr, 1) := dk_122 (dk_at dksX7_four_0 17 rfl rfl)
theorem dX7_four_18 : decode cX7_four 18 = .ok (.sipush 255, 3) := dk_17 0 255 (dk_at dksX7_four_0 18 rfl rfl)
theorem dX7_four_21 : decode cX7_four 21 = .ok (.iand, 1) := dk_126 (dk_at dksX7_four_0 21 rfl rfl)
theorem dX7_four_22 : decode cX7_four 22 = .ok (.iastore, 1) := dk_79 (dk_at dksX7_four_0 22 rfl rfl)
theorem dX7_four_23 : decode cX7_four 23 = .ok (.aload_n 0, 1) := dk_42 (dk_at dksX7_four_0 23 rfl rfl)
theorem dX7_four_24 : decode cX7_four 24 = .ok (.dup, 1) := dk_89 (dk_at dksX7_four_1 0 rfl rfl)
theorem dX7_four_25 : decode cX7_four 25 = .ok (.getfield 169, 3) := dk_180 0 169 (dk_at dksX7_four_1 1 rfl rfl)
theorem dX7_four_28 : decode cX7_four 28 = .ok (.iconst 1, 1) := dk_4 (dk_at dksX7_four_1 4 rfl rfl)
theorem dX7_four_29 : decode cX7_four 29 = .ok (.iadd, 1) := dk_96 (dk_at dksX7_four_1 5 rfl rfl)
theorem dX7_four_30 : decode cX7_four 30 = .ok (.putfield 169, 3) := dk_181 0 169 (dk_at dksX7_four_1 6 rfl rfl)
theorem dX7_four_33 : decode cX7_four 33 = .ok (.iinc 2 (-8), 3) := dk_132 2 248 (dk_at dksX7_four_1 9 rfl rfl)
theorem dX7_four_36 : decode cX7_four 36 = .ok (.goto (-33), 3) := dk_167 255 223 (dk_at dksX7_four_1 12 rfl rfl)
theorem dX7_four_39 : decode cX7_four 39 = .ok (.return_, 1) := dk_177 (dk_at dksX7_four_1 15 rfl rfl)
def dkwX7_end_1 : List UInt8 := [27, 172]
abbrev dktX7_end_1 : List UInt8 := dkwX7_end_1 ++ []
def dkwX7_end_0 : List UInt8 := [42, 3, 181, 0, 113, 27, 155, 0, 11, 27, 42, 180, 0, 169, 164, 0, 5, 2, 172, 42, 27, 181, 0, 169]
abbrev dktX7_end_0 : List UInt8 := dkwX7_end_0 ++ dktX7_end_1
theorem dksX7_end_0 : cX7_end.data.toList.drop 0 = dktX7_end_0 := by decide +kernel
theorem dksX7_end_1 : cX7_end.data.toList.drop 24 = dktX7_end_1 := dk_seg dksX7_end_0 24 rfl rfl
theorem dX7_end_0 : decode cX7_end 0 = .ok (.aload_n 0, 1) := dk_42 (dk_at dksX7_end_0 0 rfl rfl)
theorem dX7_end_1 : decode cX7_end 1 = .ok (.iconst 0, 1) := dk_3 (dk_at dksX7_end_0 1 rfl rfl)
theorem dX7_end_2 : decode cX7_end 2 = .ok (.putfield 113, 3) := dk_181 0 113 (dk_at dksX7_end_0 2 rfl rfl)
theorem dX7_end_5 : decode cX7_end 5 = .ok (.iload_n 1, 1) := dk_27 (dk_at dksX7_end_0 5 rfl rfl)
theorem dX7_end_6 : decode cX7_end 6 = .ok (.ifCond .lt 11, 3) := dk_155 0 11 (dk_at dksX7_end_0 6 rfl rfl)
theorem dX7_end_9 : decode cX7_end 9 = .ok (.iload_n 1, 1) := dk_27 (dk_at dksX7_end_0 9 rfl rfl)
theorem dX7_end_10 : decode cX7_end 10 = .ok (.aload_n 0, 1) := dk_42 (dk_at dksX7_end_0 10 rfl rfl)
theorem dX7_end_11 : decode cX7_end 11 = .ok (.getfield 169, 3) := dk_180 0 169 (dk_at dksX7_end_0 11 rfl rfl)
theorem dX7_end_14 : decode cX7_end 14 = .ok (.if_icmp .le 5, 3) := dk_164 0 5 (dk_at dksX7_end_0 14 rfl rfl)
theorem dX7_end_17 : decode cX7_end 17 = .ok (.iconst (-1), 1) := dk_2 (dk_at dksX7_end_0 17 rfl rfl)
theorem dX7_end_18 : decode cX7_end 18 = .ok (.ireturn, 1) := dk_172 (dk_at dksX7_end_0 18 rfl rfl)
theorem dX7_end_19 : decode cX7_end 19 = .ok (.aload_n 0, 1) := dk_42 (dk_at dksX7_end_0 19 rfl rfl)
theorem dX7_end_20 : decode cX7_end 20 = .ok (.iload_n 1, 1) := dk_27 (dk_at dksX7_end_0 20 rfl rfl)
theorem dX7_end_21 : decode cX7_end 21 = .ok (.putfield 169, 3) := dk_181 0 169 (dk_at dksX7_end_0 21 rfl rfl)
theorem dX7_end_24 : decode cX7_end 24 = .ok (.iload_n 1, 1) := dk_27 (dk_at dksX7_end_1 0 rfl rfl)
theorem dX7_end_25 : decode cX7_end 25 = .ok (.ireturn, 1) := dk_172 (dk_at dksX7_end_1 1 rfl rfl)
def dkwX7_fault_0 : List UInt8 := [42, 3, 181, 0, 113, 42, 180, 0, 30, 172]
abbrev dktX7_fault_0 : List UInt8 := dkwX7_fault_0 ++ []
theorem dksX7_fault_0 : cX7_fault.data.toList.drop 0 = dktX7_fault_0 := by decide +kernel
theorem dX7_fault_0 : decode cX7_fault 0 = .ok (.aload_n 0, 1) := dk_42 (dk_at dksX7_fault_0 0 rfl rfl)
theorem dX7_fault_1 : decode cX7_fault 1 = .ok (.iconst 0, 1) := dk_3 (dk_at dksX7_fault_0 1 rfl rfl)
theorem dX7_fault_2 : decode cX7_fault 2 = .ok (.putfield 113, 3) := dk_181 0 113 (dk_at dksX7_fault_0 2 rfl rfl)
theorem dX7_fault_5 : decode cX7_fault 5 = .ok (.aload_n 0, 1) := dk_42 (dk_at dksX7_fault_0 5 rfl rfl)
theorem dX7_fault_6 : decode cX7_fault 6 = .ok (.getfield 30, 3) := dk_180 0 30 (dk_at dksX7_fault_0 6 rfl rfl)
theorem dX7_fault_9 : decode cX7_fault 9 = .ok (.ireturn, 1) := dk_172 (dk_at dksX7_fault_0 9 rfl rfl)
def dkwX7_order_11 : List UInt8 := [180, 0, 7, 5, 92, 46, 4, 96, 79, 42, 42, 180, 0, 7, 5, 46, 4, 100, 182, 0, 125, 172]
abbrev dktX7_order_11 : List UInt8 := dkwX7_order_11 ++ []
def dkwX7_order_10 : List UInt8 := [16, 98, 96, 5, 29, 104, 96, 4, 96, 42, 180, 0, 40, 29, 46, 79, 132, 3, 1, 167, 255, 205, 42]
abbrev dktX7_order_10 : List UInt8 := dkwX7_order_10 ++ dktX7_order_11
def dkwX7_order_9 : List UInt8 := [180, 0, 7, 28, 16, 98, 96, 5, 29, 104, 96, 42, 180, 0, 37, 29, 46, 79, 42, 180, 0, 7, 28]
abbrev dktX7_order_9 : List UInt8 := dkwX7_order_9 ++ dktX7_order_10
def dkwX7_order_8 : List UInt8 := [180, 0, 34, 29, 46, 79, 132, 3, 1, 167, 255, 226, 3, 62, 29, 42, 180, 1, 9, 162, 0, 49, 42]
abbrev dktX7_order_8 : List UInt8 := dkwX7_order_8 ++ dktX7_order_9
def dkwX7_order_7 : List UInt8 := [62, 29, 16, 8, 42, 180, 1, 141, 104, 162, 0, 25, 42, 180, 0, 7, 28, 5, 96, 29, 96, 42]
abbrev dktX7_order_7 : List UInt8 := dkwX7_order_7 ++ dktX7_order_8
def dkwX7_order_6 : List UInt8 := [184, 1, 167, 61, 42, 180, 0, 7, 28, 27, 79, 42, 180, 0, 7, 28, 4, 96, 42, 180, 1, 141, 79, 3]
abbrev dktX7_order_6 : List UInt8 := dkwX7_order_6 ++ dktX7_order_7
def dkwX7_order_5 : List UInt8 := [181, 0, 169, 42, 180, 0, 226, 153, 0, 10, 42, 16, 250, 182, 0, 125, 172, 42, 180, 0, 7, 5, 46]
abbrev dktX7_order_5 : List UInt8 := dkwX7_order_5 ++ dktX7_order_6
def dkwX7_order_4 : List UInt8 := [167, 255, 232, 42, 180, 0, 226, 154, 0, 15, 42, 180, 0, 246, 153, 0, 8, 42, 3, 182, 1, 5, 42, 3]
abbrev dktX7_order_4 : List UInt8 := dkwX7_order_4 ++ dktX7_order_5
def dkwX7_order_3 : List UInt8 := [180, 0, 226, 154, 0, 23, 42, 16, 59, 182, 1, 74, 153, 0, 14, 42, 182, 0, 230, 42, 182, 1, 164]
abbrev dktX7_order_3 : List UInt8 := dkwX7_order_3 ++ dktX7_order_4
def dkwX7_order_2 : List UInt8 := [182, 1, 161, 42, 3, 181, 1, 141, 42, 3, 181, 1, 9, 42, 3, 181, 1, 71, 42, 182, 1, 164, 42]
abbrev dktX7_order_2 : List UInt8 := dkwX7_order_2 ++ dktX7_order_3
def dkwX7_order_1 : List UInt8 := [3, 181, 0, 169, 42, 27, 184, 0, 159, 153, 0, 8, 16, 251, 167, 0, 4, 2, 182, 0, 125, 172, 42]
abbrev dktX7_order_1 : List UInt8 := dkwX7_order_1 ++ dktX7_order_2
def dkwX7_order_0 : List UInt8 := [42, 3, 181, 0, 113, 27, 184, 0, 159, 153, 0, 14, 42, 180, 0, 7, 5, 46, 16, 20, 160, 0, 26, 42]
abbrev dktX7_order_0 : List UInt8 := dkwX7_order_0 ++ dktX7_order_1
theorem dksX7_order_0 : cX7_order.data.toList.drop 0 = dktX7_order_0 := by decide +kernel
theorem dksX7_order_1 : cX7_order.data.toList.drop 24 = dktX7_order_1 := dk_seg dksX7_order_0 24 rfl rfl
theorem dksX7_order_2 : cX7_order.data.toList.drop 47 = dktX7_order_2 := dk_seg dksX7_order_1 23 rfl rfl
theorem dksX7_order_3 : cX7_order.data.toList.drop 70 = dktX7_order_3 := dk_seg dksX7_order_2 23 rfl rfl
theorem dksX7_order_4 : cX7_order.data.toList.drop 93 = dktX7_order_4 := dk_seg dksX7_order_3 23 rfl rfl
theorem dksX7_order_5 : cX7_order.data.toList.drop 117 = dktX7_order_5 := dk_seg dksX7_order_4 24 rfl rfl
theorem dksX7_order_6 : cX7_order.data.toList.drop 140 = dktX7_order_6 := dk_seg dksX7_order_5 23 rfl rfl
theorem dksX7_order_7 : cX7_order.data.toList.drop 164 = dktX7_order_7 := dk_seg dksX7_order_6 24 rfl rfl
theorem dksX7_order_8 : cX7_order.data.toList.drop 186 = dktX7_order_8 := dk_seg dksX7_order_7 22 rfl rfl
theorem dksX7_order_9 : cX7_order.data.toList.drop 209 = dktX7_order_9 := dk_seg dksX7_order_8 23 rfl rfl
theorem dksX7_order_10 : cX7_order.data.toList.drop 232 = dktX7_order_10 := dk_seg dksX7_order_9 23 rfl rfl
theorem dksX7_order_11 : cX7_order.data.toList.drop 255 = dktX7_order_11 := dk_seg dksX7_order_10 23 rfl rfl
theorem dX7_order_0 : decode cX7_order 0 = .ok (.aload_n 0, 1) := dk_42 (dk_at dksX7_order_0 0 rfl rfl)
theorem dX7_order_1 : decode cX7_order 1 = .ok (.iconst 0, 1) := dk_3 (dk_at dksX7_order_0 1 rfl rfl)
theorem dX7_order_2 : decode cX7_order 2 = .ok (.putfield 113, 3) := dk_181 0 113 (dk_at dksX7_order_0 2 rfl rfl)
theorem dX7_order_5 : decode cX7_order 5 = .ok (.iload_n 1, 1) := dk_27 (dk_at dksX7_order_0 5 rfl rfl)
theorem dX7_order_6 : decode cX7_order 6 = .ok (.invokestatic 159, 3) := dk_184 0 159 (dk_at dksX7_order_0 6 rfl rfl)
theorem dX7_order_9 : decode cX7_order 9 = .ok (.ifCond .eq 14, 3) := dk_153 0 14 (dk_at dksX7_order_0 9 rfl rfl)
theorem dX7_order_12 : decode cX7_order 12 = .ok (.aload_n 0, 1) := dk_42 (dk_at dksX7_order_0 12 rfl rfl)
theorem dX7_order_13 : decode cX7_order 13 = .ok (.getfield 7, 3) := dk_180 0 7 (dk_at dksX7_order_0 13 rfl rfl)
theorem dX7_order_16 : decode cX7_order 16 = .ok (.iconst 2, 1) := dk_5 (dk_at dksX7_order_0 16 rfl rfl)
theorem dX7_order_17 : decode cX7_order 17 = .ok (.iaload, 1) := dk_46 (dk_at dksX7_order_0 17 rfl rfl)
theorem dX7_order_18 : decode cX7_order 18 = .ok (.bipush 20, 2) := dk_16 20 (dk_at dksX7_order_0 18 rfl rfl)
theorem dX7_order_20 : decode cX7_order 20 = .ok (.if_icmp .ne 26, 3) := dk_160 0 26 (dk_at dksX7_order_0 20 rfl rfl)
theorem dX7_order_23 : decode cX7_order 23 = .ok (.aload_n 0, 1) := dk_42 (dk_at dksX7_order_0 23 rfl rfl)
theorem dX7_order_24 : decode cX7_order 24 = .ok (.iconst 0, 1) := dk_3 (dk_at dksX7_order_1 0 rfl rfl)
theorem dX7_order_25 : decode cX7_order 25 = .ok (.putfield 169, 3) := dk_181 0 169 (dk_at dksX7_order_1 1 rfl rfl)
theorem dX7_order_28 : decode cX7_order 28 = .ok (.aload_n 0, 1) := dk_42 (dk_at dksX7_order_1 4 rfl rfl)
theorem dX7_order_29 : decode cX7_order 29 = .ok (.iload_n 1, 1) := dk_27 (dk_at dksX7_order_1 5 rfl rfl)
theorem dX7_order_30 : decode cX7_order 30 = .ok (.invokestatic 159, 3) := dk_184 0 159 (dk_at dksX7_order_1 6 rfl rfl)
theorem dX7_order_33 : decode cX7_order 33 = .ok (.ifCond .eq 8, 3) := dk_153 0 8 (dk_at dksX7_order_1 9 rfl rfl)
theorem dX7_order_36 : decode cX7_order 36 = .ok (.bipush (-5), 2) := dk_16 251 (dk_at dksX7_order_1 12 rfl rfl)
theorem dX7_order_38 : decode cX7_order 38 = .ok (.goto 4, 3) := dk_167 0 4 (dk_at dksX7_order_1 14 rfl rfl)
theorem dX7_order_41 : decode cX7_order 41 = .ok (.iconst (-1), 1) := dk_2 (dk_at dksX7_order_1 17 rfl rfl)
theorem dX7_order_42 : decode cX7_order 42 = .ok (.invokevirtual 125, 3) := dk_182 0 125 (dk_at dksX7_order_1 18 rfl rfl)
theorem dX7_order_45 : decode cX7_order 45 = .ok (.ireturn, 1) := dk_172 (dk_at dksX7_order_1 21 rfl rfl)
theorem dX7_order_46 : decode cX7_order 46 = .ok (.aload_n 0, 1) := dk_42 (dk_at dksX7_order_1 22 rfl rfl)
theorem dX7_order_47 : decode cX7_order 47 = .ok (.invokevirtual 417, 3) := dk_182 1 161 (dk_at dksX7_order_2 0 rfl rfl)
theorem dX7_order_50 : decode cX7_order 50 = .ok (.aload_n 0, 1) := dk_42 (dk_at dksX7_order_2 3 rfl rfl)
theorem dX7_order_51 : decode cX7_order 51 = .ok (.iconst 0, 1) := dk_3 (dk_at dksX7_order_2 4 rfl rfl)
theorem dX7_order_52 : decode cX7_order 52 = .ok (.putfield 397, 3) := dk_181 1 141 (dk_at dksX7_order_2 5 rfl rfl)
theorem dX7_order_55 : decode cX7_order 55 = .ok (.aload_n 0, 1) := dk_42 (dk_at dksX7_order_2 8 rfl rfl)
theorem dX7_order_56 : decode cX7_order 56 = .ok (.iconst 0, 1) := dk_3 (dk_at dksX7_order_2 9 rfl rfl)
theorem dX7_order_57 : decode cX7_order 57 = .ok (.putfield 265, 3) := dk_181 1 9 (dk_at dksX7_order_2 10 rfl rfl)
theorem dX7_order_60 : decode cX7_order 60 = .ok (.aload_n 0, 1) := dk_42 (dk_at dksX7_order_2 13 rfl rfl)
theorem dX7_order_61 : decode cX7_order 61 = .ok (.iconst 0, 1) := dk_3 (dk_at dksX7_order_2 14 rfl rfl)
theorem dX7_order_62 : decode cX7_order 62 = .ok (.putfield 327, 3) := dk_181 1 71 (dk_at dksX7_order_2 15 rfl rfl)
theorem dX7_order_65 : decode cX7_order 65 = .ok (.aload_n 0, 1) := dk_42 (dk_at dksX7_order_2 18 rfl rfl)
theorem dX7_order_66 : decode cX7_order 66 = .ok (.invokevirtual 420, 3) := dk_182 1 164 (dk_at dksX7_order_2 19 rfl rfl)
theorem dX7_order_69 : decode cX7_order 69 = .ok (.aload_n 0, 1) := dk_42 (dk_at dksX7_order_2 22 rfl rfl)
theorem dX7_order_70 : decode cX7_order 70 = .ok (.getfield 226, 3) := dk_180 0 226 (dk_at dksX7_order_3 0 rfl rfl)
theorem dX7_order_73 : decode cX7_order 73 = .ok (.ifCond .ne 23, 3) := dk_154 0 23 (dk_at dksX7_order_3 3 rfl rfl)
theorem dX7_order_76 : decode cX7_order 76 = .ok (.aload_n 0, 1) := dk_42 (dk_at dksX7_order_3 6 rfl rfl)
theorem dX7_order_77 : decode cX7_order 77 = .ok (.bipush 59, 2) := dk_16 59 (dk_at dksX7_order_3 7 rfl rfl)
theorem dX7_order_79 : decode cX7_order 79 = .ok (.invokevirtual 330, 3) := dk_182 1 74 (dk_at dksX7_order_3 9 rfl rfl)
theorem dX7_order_82 : decode cX7_order 82 = .ok (.ifCond .eq 14, 3) := dk_153 0 14 (dk_at dksX7_order_3 12 rfl rfl)
theorem dX7_order_85 : decode cX7_order 85 = .ok (.aload_n 0, 1) := dk_42 (dk_at dksX7_order_3 15 rfl rfl)
theorem dX7_order_86 : decode cX7_order 86 = .ok (.invokevirtual 230, 3) := dk_182 0 230 (dk_at dksX7_order_3 16 rfl rfl)
theorem dX7_order_89 : decode cX7_order 89 = .ok (.aload_n 0, 1) := dk_42 (dk_at dksX7_order_3 19 rfl rfl)
theorem dX7_order_90 : decode cX7_order 90 = .ok (.invokevirtual 420, 3) := dk_182 1 164 (dk_at dksX7_order_3 20 rfl rfl)
theorem dX7_order_93 : decode cX7_order 93 = .ok (.goto (-24), 3) := dk_167 255 232 (dk_at dksX7_order_4 0 rfl rfl)
theorem dX7_order_96 : decode cX7_order 96 = .ok (.aload_n 0, 1) := dk_42 (dk_at dksX7_order_4 3 rfl rfl)
theorem dX7_order_97 : decode cX7_order 97 = .ok (.getfield 226, 3) := dk_180 0 226 (dk_at dksX7_order_4 4 rfl rfl)
theorem dX7_order_100 : decode cX7_order 100 = .ok (.ifCond .ne 15, 3) := dk_154 0 15 (dk_at dksX7_order_4 7 rfl rfl)
theorem dX7_order_103 : decode cX7_order 103 = .ok (.aload_n 0, 1) := dk_42 (dk_at dksX7_order_4 10 rfl rfl)
theorem dX7_order_104 : decode cX7_order 104 = .ok (.getfield 246, 3) := dk_180 0 246 (dk_at dksX7_order_4 11 rfl rfl)
theorem dX7_order_107 : decode cX7_order 107 = .ok (.ifCond .eq 8, 3) := dk_153 0 8 (dk_at dksX7_order_4 14 rfl rfl)
theorem dX7_order_110 : decode cX7_order 110 = .ok (.aload_n 0, 1) := dk_42 (dk_at dksX7_order_4 17 rfl rfl)
theorem dX7_order_111 : decode cX7_order 111 = .ok (.iconst 0, 1) := dk_3 (dk_at dksX7_order_4 18 rfl rfl)
theorem dX7_order_112 : decode cX7_order 112 = .ok (.invokevirtual 261, 3) := dk_182 1 5 (dk_at dksX7_order_4 19 rfl rfl)
theorem dX7_order_115 : decode cX7_order 115 = .ok (.aload_n 0, 1) := dk_42 (dk_at dksX7_order_4 22 rfl rfl)
theorem dX7_order_116 : decode cX7_order 116 = .ok (.iconst 0, 1) := dk_3 (dk_at dksX7_order_4 23 rfl rfl)
theorem dX7_order_117 : decode cX7_order 117 = .ok (.putfield 169, 3) := dk_181 0 169 (dk_at dksX7_order_5 0 rfl rfl)
theorem dX7_order_120 : decode cX7_order 120 = .ok (.aload_n 0, 1) := dk_42 (dk_at dksX7_order_5 3 rfl rfl)
theorem dX7_order_121 : decode cX7_order 121 = .ok (.getfield 226, 3) := dk_180 0 226 (dk_at dksX7_order_5 4 rfl rfl)
theorem dX7_order_124 : decode cX7_order 124 = .ok (.ifCond .eq 10, 3) := dk_153 0 10 (dk_at dksX7_order_5 7 rfl rfl)
theorem dX7_order_127 : decode cX7_order 127 = .ok (.aload_n 0, 1) := dk_42 (dk_at dksX7_order_5 10 rfl rfl)
theorem dX7_order_128 : decode cX7_order 128 = .ok (.bipush (-6), 2) := dk_16 250 (dk_at dksX7_order_5 11 rfl rfl)
theorem dX7_order_130 : decode cX7_order 130 = .ok (.invokevirtual 125, 3) := dk_182 0 125 (dk_at dksX7_order_5 13 rfl rfl)
theorem dX7_order_133 : decode cX7_order 133 = .ok (.ireturn, 1) := dk_172 (dk_at dksX7_order_5 16 rfl rfl)
theorem dX7_order_134 : decode cX7_order 134 = .ok (.aload_n 0, 1) := dk_42 (dk_at dksX7_order_5 17 rfl rfl)
theorem dX7_order_135 : decode cX7_order 135 = .ok (.getfield 7, 3) := dk_180 0 7 (dk_at dksX7_order_5 18 rfl rfl)
theorem dX7_order_138 : decode cX7_order 138 = .ok (.iconst 2, 1) := dk_5 (dk_at dksX7_order_5 21 rfl rfl)
theorem dX7_order_139 : decode cX7_order 139 = .ok (.iaload, 1) := dk_46 (dk_at dksX7_order_5 22 rfl rfl)
theorem dX7_order_140 : decode cX7_order 140 = .ok (.invokestatic 423, 3) := dk_184 1 167 (dk_at dksX7_order_6 0 rfl rfl)
theorem dX7_order_143 : decode cX7_order 143 = .ok (.istore_n 2, 1) := dk_61 (dk_at dksX7_order_6 3 rfl rfl)
theorem dX7_order_144 : decode cX7_order 144 = .ok (.aload_n 0, 1) := dk_42 (dk_at dksX7_order_6 4 rfl rfl)
theorem dX7_order_145 : decode cX7_order 145 = .ok (.getfield 7, 3) := dk_180 0 7 (dk_at dksX7_order_6 5 rfl rfl)
theorem dX7_order_148 : decode cX7_order 148 = .ok (.iload_n 2, 1) := dk_28 (dk_at dksX7_order_6 8 rfl rfl)
theorem dX7_order_149 : decode cX7_order 149 = .ok (.iload_n 1, 1) := dk_27 (dk_at dksX7_order_6 9 rfl rfl)
theorem dX7_order_150 : decode cX7_order 150 = .ok (.iastore, 1) := dk_79 (dk_at dksX7_order_6 10 rfl rfl)
theorem dX7_order_151 : decode cX7_order 151 = .ok (.aload_n 0, 1) := dk_42 (dk_at dksX7_order_6 11 rfl rfl)
theorem dX7_order_152 : decode cX7_order 152 = .ok (.getfield 7, 3) := dk_180 0 7 (dk_at dksX7_order_6 12 rfl rfl)
theorem dX7_order_155 : decode cX7_order 155 = .ok (.iload_n 2, 1) := dk_28 (dk_at dksX7_order_6 15 rfl rfl)
theorem dX7_order_156 : decode cX7_order 156 = .ok (.iconst 1, 1) := dk_4 (dk_at dksX7_order_6 16 rfl rfl)
theorem dX7_order_157 : decode cX7_order 157 = .ok (.iadd, 1) := dk_96 (dk_at dksX7_order_6 17 rfl rfl)
theorem dX7_order_158 : decode cX7_order 158 = .ok (.aload_n 0, 1) := dk_42 (dk_at dksX7_order_6 18 rfl rfl)
theorem dX7_order_159 : decode cX7_order 159 = .ok (.getfield 397, 3) := dk_180 1 141 (dk_at dksX7_order_6 19 rfl rfl)
theorem dX7_order_162 : decode cX7_order 162 = .ok (.iastore, 1) := dk_79 (dk_at dksX7_order_6 22 rfl rfl)
theorem dX7_order_163 : decode cX7_order 163 = .ok (.iconst 0, 1) := dk_3 (dk_at dksX7_order_6 23 rfl rfl)
theorem dX7_order_164 : decode cX7_order 164 = .ok (.istore_n 3, 1) := dk_62 (dk_at dksX7_order_7 0 rfl rfl)
theorem dX7_order_165 : decode cX7_order 165 = .ok (.iload_n 3, 1) := dk_29 (dk_at dksX7_order_7 1 rfl rfl)
theorem dX7_order_166 : decode cX7_order 166 = .ok (.bipush 8, 2) := dk_16 8 (dk_at dksX7_order_7 2 rfl rfl)
theorem dX7_order_168 : decode cX7_order 168 = .ok (.aload_n 0, 1) := dk_42 (dk_at dksX7_order_7 4 rfl rfl)
theorem dX7_order_169 : decode cX7_order 169 = .ok (.getfield 397, 3) := dk_180 1 141 (dk_at dksX7_order_7 5 rfl rfl)
theorem dX7_order_172 : decode cX7_order 172 = .ok (.imul, 1) := dk_104 (dk_at dksX7_order_7 8 rfl rfl)
theorem dX7_order_173 : decode cX7_order 173 = .ok (.if_icmp .ge 25, 3) := dk_162 0 25 (dk_at dksX7_order_7 9 rfl rfl)
theorem dX7_order_176 : decode cX7_order 176 = .ok (.aload_n 0, 1) := dk_42 (dk_at dksX7_order_7 12 rfl rfl)
theorem dX7_order_177 : decode cX7_order 177 = .ok (.getfield 7, 3) := dk_180 0 7 (dk_at dksX7_order_7 13 rfl rfl)
theorem dX7_order_180 : decode cX7_order 180 = .ok (.iload_n 2, 1) := dk_28 (dk_at dksX7_order_7 16 rfl rfl)
theorem dX7_order_181 : decode cX7_order 181 = .ok (.iconst 2, 1) := dk_5 (dk_at dksX7_order_7 17 rfl rfl)
theorem dX7_order_182 : decode cX7_order 182 = .ok (.iadd, 1) := dk_96 (dk_at dksX7_order_7 18 rfl rfl)
theorem dX7_order_183 : decode cX7_order 183 = .ok (.iload_n 3, 1) := dk_29 (dk_at dksX7_order_7 19 rfl rfl)
theorem dX7_order_184 : decode cX7_order 184 = .ok (.iadd, 1) := dk_96 (dk_at dksX7_order_7 20 rfl rfl)
theorem dX7_order_185 : decode cX7_order 185 = .ok (.aload_n 0, 1) := dk_42 (dk_at dksX7_order_7 21 rfl rfl)
theorem dX7_order_186 : decode cX7_order 186 = .ok (.getfield 34, 3) := dk_180 0 34 (dk_at dksX7_order_8 0 rfl rfl)
theorem dX7_order_189 : decode cX7_order 189 = .ok (.iload_n 3, 1) := dk_29 (dk_at dksX7_order_8 3 rfl rfl)
theorem dX7_order_190 : decode cX7_order 190 = .ok (.iaload, 1) := dk_46 (dk_at dksX7_order_8 4 rfl rfl)
theorem dX7_order_191 : decode cX7_order 191 = .ok (.iastore, 1) := dk_79 (dk_at dksX7_order_8 5 rfl rfl)
theorem dX7_order_192 : decode cX7_order 192 = .ok (.iinc 3 1, 3) := dk_132 3 1 (dk_at dksX7_order_8 6 rfl rfl)
theorem dX7_order_195 : decode cX7_order 195 = .ok (.goto (-30), 3) := dk_167 255 226 (dk_at dksX7_order_8 9 rfl rfl)
theorem dX7_order_198 : decode cX7_order 198 = .ok (.iconst 0, 1) := dk_3 (dk_at dksX7_order_8 12 rfl rfl)
theorem dX7_order_199 : decode cX7_order 199 = .ok (.istore_n 3, 1) := dk_62 (dk_at dksX7_order_8 13 rfl rfl)
theorem dX7_order_200 : decode cX7_order 200 = .ok (.iload_n 3, 1) := dk_29 (dk_at dksX7_order_8 14 rfl rfl)
theorem dX7_order_201 : decode cX7_order 201 = .ok (.aload_n 0, 1) := dk_42 (dk_at dksX7_order_8 15 rfl rfl)
theorem dX7_order_202 : decode cX7_order 202 = .ok (.getfield 265, 3) := dk_180 1 9 (dk_at dksX7_order_8 16 rfl rfl)
theorem dX7_order_205 : decode cX7_order 205 = .ok (.if_icmp .ge 49, 3) := dk_162 0 49 (dk_at dksX7_order_8 19 rfl rfl)
theorem dX7_order_208 : decode cX7_order 208 = .ok (.aload_n 0, 1) := dk_42 (dk_at dksX7_order_8 22 rfl rfl)
theorem dX7_order_209 : decode cX7_order 209 = .ok (.getfield 7, 3) := dk_180 0 7 (dk_at dksX7_order_9 0 rfl rfl)
theorem dX7_order_212 : decode cX7_order 212 = .ok (.iload_n 2, 1) := dk_28 (dk_at dksX7_order_9 3 rfl rfl)
theorem dX7_order_213 : decode cX7_order 213 = .ok (.bipush 98, 2) := dk_16 98 (dk_at dksX7_order_9 4 rfl rfl)
theorem dX7_order_215 : decode cX7_order 215 = .ok (.iadd, 1) := dk_96 (dk_at dksX7_order_9 6 rfl rfl)
theorem dX7_order_216 : decode cX7_order 216 = .ok (.iconst 2, 1) := dk_5 (dk_at dksX7_order_9 7 rfl rfl)
theorem dX7_order_217 : decode cX7_order 217 = .ok (.iload_n 3, 1) := dk_29 (dk_at dksX7_order_9 8 rfl rfl)
theorem dX7_order_218 : decode cX7_order 218 = .ok (.imul, 1) := dk_104 (dk_at dksX7_order_9 9 rfl rfl)
theorem dX7_order_219 : decode cX7_order 219 = .ok (.iadd, 1) := dk_96 (dk_at dksX7_order_9 10 rfl rfl)
theorem dX7_order_220 : decode cX7_order 220 = .ok (.aload_n 0, 1) := dk_42 (dk_at dksX7_order_9 11 rfl rfl)
theorem dX7_order_221 : decode cX7_order 221 = .ok (.getfield 37, 3) := dk_180 0 37 (dk_at dksX7_order_9 12 rfl rfl)
theorem dX7_order_224 : decode cX7_order 224 = .ok (.iload_n 3, 1) := dk_29 (dk_at dksX7_order_9 15 rfl rfl)
theorem dX7_order_225 : decode cX7_order 225 = .ok (.iaload, 1) := dk_46 (dk_at dksX7_order_9 16 rfl rfl)
theorem dX7_order_226 : decode cX7_order 226 = .ok (.iastore, 1) := dk_79 (dk_at dksX7_order_9 17 rfl rfl)
theorem dX7_order_227 : decode cX7_order 227 = .ok (.aload_n 0, 1) := dk_42 (dk_at dksX7_order_9 18 rfl rfl)
theorem dX7_order_228 : decode cX7_order 228 = .ok (.getfield 7, 3) := dk_180 0 7 (dk_at dksX7_order_9 19 rfl rfl)
theorem dX7_order_231 : decode cX7_order 231 = .ok (.iload_n 2, 1) := dk_28 (dk_at dksX7_order_9 22 rfl rfl)
theorem dX7_order_232 : decode cX7_order 232 = .ok (.bipush 98, 2) := dk_16 98 (dk_at dksX7_order_10 0 rfl rfl)
theorem dX7_order_234 : decode cX7_order 234 = .ok (.iadd, 1) := dk_96 (dk_at dksX7_order_10 2 rfl rfl)
theorem dX7_order_235 : decode cX7_order 235 = .ok (.iconst 2, 1) := dk_5 (dk_at dksX7_order_10 3 rfl rfl)
theorem dX7_order_236 : decode cX7_order 236 = .ok (.iload_n 3, 1) := dk_29 (dk_at dksX7_order_10 4 rfl rfl)
theorem dX7_order_237 : decode cX7_order 237 = .ok (.imul, 1) := dk_104 (dk_at dksX7_order_10 5 rfl rfl)
theorem dX7_order_238 : decode cX7_order 238 = .ok (.iadd, 1) := dk_96 (dk_at dksX7_order_10 6 rfl rfl)
theorem dX7_order_239 : decode cX7_order 239 = .ok (.iconst 1, 1) := dk_4 (dk_at dksX7_order_10 7 rfl rfl)
theorem dX7_order_240 : decode cX7_order 240 = .ok (.iadd, 1) := dk_96 (dk_at dksX7_order_10 8 rfl rfl)
theorem dX7_order_241 : decode cX7_order 241 = .ok (.aload_n 0, 1) := dk_42 (dk_at dksX7_order_10 9 rfl rfl)
theorem dX7_order_242 : decode cX7_order 242 = .ok (.getfield 40, 3) := dk_180 0 40 (dk_at dksX7_order_10 10 rfl rfl)
theorem dX7_order_245 : decode cX7_order 245 = .ok (.iload_n 3, 1) := dk_29 (dk_at dksX7_order_10 13 rfl rfl)
theorem dX7_order_246 : decode cX7_order 246 = .ok (.iaload, 1) := dk_46 (dk_at dksX7_order_10 14 rfl rfl)
theorem dX7_order_247 : decode cX7_order 247 = .ok (.iastore, 1) := dk_79 (dk_at dksX7_order_10 15 rfl rfl)
theorem dX7_order_248 : decode cX7_order 248 = .ok (.iinc 3 1, 3) := dk_132 3 1 (dk_at dksX7_order_10 16 rfl rfl)
theorem dX7_order_251 : decode cX7_order 251 = .ok (.goto (-51), 3) := dk_167 255 205 (dk_at dksX7_order_10 19 rfl rfl)
theorem dX7_order_254 : decode cX7_order 254 = .ok (.aload_n 0, 1) := dk_42 (dk_at dksX7_order_10 22 rfl rfl)
theorem dX7_order_255 : decode cX7_order 255 = .ok (.getfield 7, 3) := dk_180 0 7 (dk_at dksX7_order_11 0 rfl rfl)
theorem dX7_order_258 : decode cX7_order 258 = .ok (.iconst 2, 1) := dk_5 (dk_at dksX7_order_11 3 rfl rfl)
theorem dX7_order_259 : decode cX7_order 259 = .ok (.dup2, 1) := dk_92 (dk_at dksX7_order_11 4 rfl rfl)
theorem dX7_order_260 : decode cX7_order 260 = .ok (.iaload, 1) := dk_46 (dk_at dksX7_order_11 5 rfl rfl)
theorem dX7_order_261 : decode cX7_order 261 = .ok (.iconst 1, 1) := dk_4 (dk_at dksX7_order_11 6 rfl rfl)
theorem dX7_order_262 : decode cX7_order 262 = .ok (.iadd, 1) := dk_96 (dk_at dksX7_order_11 7 rfl rfl)
theorem dX7_order_263 : decode cX7_order 263 = .ok (.iastore, 1) := dk_79 (dk_at dksX7_order_11 8 rfl rfl)
theorem dX7_order_264 : decode cX7_order 264 = .ok (.aload_n 0, 1) := dk_42 (dk_at dksX7_order_11 9 rfl rfl)
theorem dX7_order_265 : decode cX7_order 265 = .ok (.aload_n 0, 1) := dk_42 (dk_at dksX7_order_11 10 rfl rfl)
theorem dX7_order_266 : decode cX7_order 266 = .ok (.getfield 7, 3) := dk_180 0 7 (dk_at dksX7_order_11 11 rfl rfl)
theorem dX7_order_269 : decode cX7_order 269 = .ok (.iconst 2, 1) := dk_5 (dk_at dksX7_order_11 14 rfl rfl)
theorem dX7_order_270 : decode cX7_order 270 = .ok (.iaload, 1) := dk_46 (dk_at dksX7_order_11 15 rfl rfl)
theorem dX7_order_271 : decode cX7_order 271 = .ok (.iconst 1, 1) := dk_4 (dk_at dksX7_order_11 16 rfl rfl)
theorem dX7_order_272 : decode cX7_order 272 = .ok (.isub, 1) := dk_100 (dk_at dksX7_order_11 17 rfl rfl)
theorem dX7_order_273 : decode cX7_order 273 = .ok (.invokevirtual 125, 3) := dk_182 0 125 (dk_at dksX7_order_11 18 rfl rfl)
theorem dX7_order_276 : decode cX7_order 276 = .ok (.ireturn, 1) := dk_172 (dk_at dksX7_order_11 21 rfl rfl)
def dkwX7_begin_0 : List UInt8 := [42, 3, 181, 0, 223, 42, 3, 181, 0, 226, 42, 2, 181, 0, 30, 42, 182, 0, 230, 177]
abbrev dktX7_begin_0 : List UInt8 := dkwX7_begin_0 ++ []
theorem dksX7_begin_0 : cX7_begin.data.toList.drop 0 = dktX7_begin_0 := by decide +kernel
theorem dX7_begin_0 : decode cX7_begin 0 = .ok (.aload_n 0, 1) := dk_42 (dk_at dksX7_begin_0 0 rfl rfl)
theorem dX7_begin_1 : decode cX7_begin 1 = .ok (.iconst 0, 1) := dk_3 (dk_at dksX7_begin_0 1 rfl rfl)
theorem dX7_begin_2 : decode cX7_begin 2 = .ok (.putfield 223, 3) := dk_181 0 223 (dk_at dksX7_begin_0 2 rfl rfl)
theorem dX7_begin_5 : decode cX7_begin 5 = .ok (.aload_n 0, 1) := dk_42 (dk_at dksX7_begin_0 5 rfl rfl)
theorem dX7_begin_6 : decode cX7_begin 6 = .ok (.iconst 0, 1) := dk_3 (dk_at dksX7_begin_0 6 rfl rfl)
theorem dX7_begin_7 : decode cX7_begin 7 = .ok (.putfield 226, 3) := dk_181 0 226 (dk_at dksX7_begin_0 7 rfl rfl)
theorem dX7_begin_10 : decode cX7_begin 10 = .ok (.aload_n 0, 1) := dk_42 (dk_at dksX7_begin_0 10 rfl rfl)
theorem dX7_begin_11 : decode cX7_begin 11 = .ok (.iconst (-1), 1) := dk_2 (dk_at dksX7_begin_0 11 rfl rfl)
theorem dX7_begin_12 : decode cX7_begin 12 = .ok (.putfield 30, 3) := dk_181 0 30 (dk_at dksX7_begin_0 12 rfl rfl)
theorem dX7_begin_15 : decode cX7_begin 15 = .ok (.aload_n 0, 1) := dk_42 (dk_at dksX7_begin_0 15 rfl rfl)
theorem dX7_begin_16 : decode cX7_begin 16 = .ok (.invokevirtual 230, 3) := dk_182 0 230 (dk_at dksX7_begin_0 16 rfl rfl)
theorem dX7_begin_19 : decode cX7_begin 19 = .ok (.return_, 1) := dk_177 (dk_at dksX7_begin_0 19 rfl rfl)
def dkwX7_next_14 : List UInt8 := [181, 0, 223, 167, 255, 167, 177]
abbrev dktX7_next_14 : List UInt8 := dkwX7_next_14 ++ []
def dkwX7_next_13 : List UInt8 := [180, 0, 27, 42, 180, 0, 223, 46, 133, 97, 20, 1, 3, 101, 181, 0, 236, 42, 89, 180, 0, 223, 4, 96]
abbrev dktX7_next_13 : List UInt8 := dkwX7_next_13 ++ dktX7_next_14
def dkwX7_next_12 : List UInt8 := [20, 0, 255, 148, 158, 0, 10, 42, 180, 0, 236, 167, 0, 26, 42, 180, 0, 236, 20, 1, 1, 105, 42]
abbrev dktX7_next_12 : List UInt8 := dkwX7_next_12 ++ dktX7_next_13
def dkwX7_next_11 : List UInt8 := [162, 0, 76, 42, 180, 0, 27, 42, 180, 0, 223, 46, 184, 0, 243, 153, 0, 61, 42, 42, 180, 0, 236]
abbrev dktX7_next_11 : List UInt8 := dkwX7_next_11 ++ dktX7_next_12
def dkwX7_next_10 : List UInt8 := [4, 96, 181, 0, 223, 167, 255, 165, 42, 180, 0, 246, 5, 160, 0, 87, 42, 180, 0, 223, 42, 180, 0, 169]
abbrev dktX7_next_10 : List UInt8 := dkwX7_next_10 ++ dktX7_next_11
def dkwX7_next_9 : List UInt8 := [180, 0, 223, 46, 133, 97, 20, 0, 251, 101, 167, 0, 6, 20, 0, 253, 181, 0, 236, 42, 89, 180, 0, 223]
abbrev dktX7_next_9 : List UInt8 := dkwX7_next_9 ++ dktX7_next_10
def dkwX7_next_8 : List UInt8 := [180, 0, 233, 100, 16, 10, 162, 0, 29, 42, 180, 0, 236, 20, 0, 249, 105, 42, 180, 0, 27, 42]
abbrev dktX7_next_8 : List UInt8 := dkwX7_next_8 ++ dktX7_next_9
def dkwX7_next_7 : List UInt8 := [162, 0, 78, 42, 180, 0, 27, 42, 180, 0, 223, 46, 184, 0, 240, 153, 0, 63, 42, 42, 180, 0, 223, 42]
abbrev dktX7_next_7 : List UInt8 := dkwX7_next_7 ++ dktX7_next_8
def dkwX7_next_6 : List UInt8 := [180, 0, 223, 4, 96, 181, 0, 223, 42, 180, 0, 246, 4, 160, 0, 89, 42, 180, 0, 223, 42, 180, 0, 169]
abbrev dktX7_next_6 : List UInt8 := dkwX7_next_6 ++ dktX7_next_7
def dkwX7_next_5 : List UInt8 := [180, 0, 246, 6, 160, 0, 27, 42, 42, 180, 0, 27, 42, 180, 0, 233, 46, 133, 181, 0, 236, 42, 89]
abbrev dktX7_next_5 : List UInt8 := dkwX7_next_5 ++ dktX7_next_6
def dkwX7_next_4 : List UInt8 := [180, 0, 27, 42, 180, 0, 233, 46, 184, 0, 243, 153, 0, 7, 5, 167, 0, 4, 6, 181, 0, 246, 42]
abbrev dktX7_next_4 : List UInt8 := dkwX7_next_4 ++ dktX7_next_5
def dkwX7_next_3 : List UInt8 := [167, 0, 42, 42, 180, 0, 27, 42, 180, 0, 233, 46, 184, 0, 240, 153, 0, 7, 4, 167, 0, 23, 42]
abbrev dktX7_next_3 : List UInt8 := dkwX7_next_3 ++ dktX7_next_4
def dkwX7_next_2 : List UInt8 := [180, 0, 233, 181, 0, 223, 42, 9, 181, 0, 236, 42, 42, 180, 0, 233, 42, 180, 0, 169, 160, 0, 7, 3]
abbrev dktX7_next_2 : List UInt8 := dkwX7_next_2 ++ dktX7_next_3
def dkwX7_next_1 : List UInt8 := [180, 0, 233, 46, 16, 32, 160, 0, 16, 42, 89, 180, 0, 233, 4, 96, 181, 0, 233, 167, 255, 221, 42, 42]
abbrev dktX7_next_1 : List UInt8 := dkwX7_next_1 ++ dktX7_next_2
def dkwX7_next_0 : List UInt8 := [42, 42, 180, 0, 223, 181, 0, 233, 42, 180, 0, 233, 42, 180, 0, 169, 162, 0, 30, 42, 180, 0, 27, 42]
abbrev dktX7_next_0 : List UInt8 := dkwX7_next_0 ++ dktX7_next_1
theorem dksX7_next_0 : cX7_next.data.toList.drop 0 = dktX7_next_0 := by decide +kernel
theorem dksX7_next_1 : cX7_next.data.toList.drop 24 = dktX7_next_1 := dk_seg dksX7_next_0 24 rfl rfl
theorem dksX7_next_2 : cX7_next.data.toList.drop 48 = dktX7_next_2 := dk_seg dksX7_next_1 24 rfl rfl
theorem dksX7_next_3 : cX7_next.data.toList.drop 72 = dktX7_next_3 := dk_seg dksX7_next_2 24 rfl rfl
theorem dksX7_next_4 : cX7_next.data.toList.drop 95 = dktX7_next_4 := dk_seg dksX7_next_3 23 rfl rfl
theorem dksX7_next_5 : cX7_next.data.toList.drop 118 = dktX7_next_5 := dk_seg dksX7_next_4 23 rfl rfl
theorem dksX7_next_6 : cX7_next.data.toList.drop 141 = dktX7_next_6 := dk_seg dksX7_next_5 23 rfl rfl
theorem dksX7_next_7 : cX7_next.data.toList.drop 165 = dktX7_next_7 := dk_seg dksX7_next_6 24 rfl rfl
theorem dksX7_next_8 : cX7_next.data.toList.drop 189 = dktX7_next_8 := dk_seg dksX7_next_7 24 rfl rfl
theorem dksX7_next_9 : cX7_next.data.toList.drop 211 = dktX7_next_9 := dk_seg dksX7_next_8 22 rfl rfl
theorem dksX7_next_10 : cX7_next.data.toList.drop 235 = dktX7_next_10 := dk_seg dksX7_next_9 24 rfl rfl
theorem dksX7_next_11 : cX7_next.data.toList.drop 259 = dktX7_next_11 := dk_seg dksX7_next_10 24 rfl rfl
theorem dksX7_next_12 : cX7_next.data.toList.drop 282 = dktX7_next_12 := dk_seg dksX7_next_11 23 rfl rfl
theorem dksX7_next_13 : cX7_next.data.toList.drop 305 = dktX7_next_13 := dk_seg dksX7_next_12 23 rfl rfl
theorem dksX7_next_14 : cX7_next.data.toList.drop 329 = dktX7_next_14 := dk_seg dksX7_next_13 24 rfl rfl
theorem dX7_next_0 : decode cX7_next 0 = .ok (.aload_n 0, 1) := dk_42 (dk_at dksX7_next_0 0 rfl rfl)
theorem dX7_next_1 : decode cX7_next 1 = .ok (.aload_n 0, 1) := dk_42 (dk_at dksX7_next_0 1 rfl rfl)
theorem dX7_next_2 : decode cX7_next 2 = .ok (.getfield 223, 3) := dk_180 0 223 (dk_at dksX7_next_0 2 rfl rfl)
theorem dX7_next_5 : decode cX7_next 5 = .ok (.putfield 233, 3) := dk_181 0 233 (dk_at dksX7_next_0 5 rfl rfl)
theorem dX7_next_8 : decode cX7_next 8 = .ok (.aload_n 0, 1) := dk_42 (dk_at dksX7_next_0 8 rfl rfl)
theorem dX7_next_9 : decode cX7_next 9 = .ok (.getfield 233, 3) := dk_180 0 233 (dk_at dksX7_next_0 9 rfl rfl)
theorem dX7_next_12 : decode cX7_next 12 = .ok (.aload_n 0, 1) := dk_42 (dk_at dksX7_next_0 12 rfl rfl)
theorem dX7_next_13 : decode cX7_next 13 = .ok (.getfield 169, 3) := dk_180 0 169 (dk_at dksX7_next_0 13 rfl rfl)
theorem dX7_next_16 : decode cX7_next 16 = .ok (.if_icmp .ge 30, 3) := dk_162 0 30 (dk_at dksX7_next_0 16 rfl rfl)
theorem dX7_next_19 : decode cX7_next 19 = .ok (.aload_n 0, 1) := dk_42 (dk_at dksX7_next_0 19 rfl rfl)
theorem dX7_next_20 : decode cX7_next 20 = .ok (.getfield 27, 3) := dk_180 0 27 (dk_at dksX7_next_0 20 rfl rfl)
theorem dX7_next_23 : decode cX7_next 23 = .ok (.aload_n 0, 1) := dk_42 (dk_at dksX7_next_0 23 rfl rfl)
theorem dX7_next_24 : decode cX7_next 24 = .ok (.getfield 233, 3) := dk_180 0 233 (dk_at dksX7_next_1 0 rfl rfl)
theorem dX7_next_27 : decode cX7_next 27 = .ok (.iaload, 1) := dk_46 (dk_at dksX7_next_1 3 rfl rfl)
theorem dX7_next_28 : decode cX7_next 28 = .ok (.bipush 32, 2) := dk_16 32 (dk_at dksX7_next_1 4 rfl rfl)
theorem dX7_next_30 : decode cX7_next 30 = .ok (.if_icmp .ne 16, 3) := dk_160 0 16 (dk_at dksX7_next_1 6 rfl rfl)
theorem dX7_next_33 : decode cX7_next 33 = .ok (.aload_n 0, 1) := dk_42 (dk_at dksX7_next_1 9 rfl rfl)
theorem dX7_next_34 : decode cX7_next 34 = .ok (.dup, 1) := dk_89 (dk_at dksX7_next_1 10 rfl rfl)
theorem dX7_next_35 : decode cX7_next 35 = .ok (.getfield 233, 3) := dk_180 0 233 (dk_at dksX7_next_1 11 rfl rfl)
theorem dX7_next_38 : decode cX7_next 38 = .ok (.iconst 1, 1) := dk_4 (dk_at dksX7_next_1 14 rfl rfl)
theorem dX7_next_39 : decode cX7_next 39 = .ok (.iadd, 1) := dk_96 (dk_at dksX7_next_1 15 rfl rfl)
theorem dX7_next_40 : decode cX7_next 40 = .ok (.putfield 233, 3) := dk_181 0 233 (dk_at dksX7_next_1 16 rfl rfl)
theorem dX7_next_43 : decode cX7_next 43 = .ok (.goto (-35), 3) := dk_167 255 221 (dk_at dksX7_next_1 19 rfl rfl)
theorem dX7_next_46 : decode cX7_next 46 = .ok (.aload_n 0, 1) := dk_42 (dk_at dksX7_next_1 22 rfl rfl)
theorem dX7_next_47 : decode cX7_next 47 = .ok (.aload_n 0, 1) := dk_42 (dk_at dksX7_next_1 23 rfl rfl)
theorem dX7_next_48 : decode cX7_next 48 = .ok (.getfield 233, 3) := dk_180 0 233 (dk_at dksX7_next_2 0 rfl rfl)
theorem dX7_next_51 : decode cX7_next 51 = .ok (.putfield 223, 3) := dk_181 0 223 (dk_at dksX7_next_2 3 rfl rfl)
theorem dX7_next_54 : decode cX7_next 54 = .ok (.aload_n 0, 1) := dk_42 (dk_at dksX7_next_2 6 rfl rfl)
theorem dX7_next_55 : decode cX7_next 55 = .ok (.lconst 0, 1) := dk_9 (dk_at dksX7_next_2 7 rfl rfl)
theorem dX7_next_56 : decode cX7_next 56 = .ok (.putfield 236, 3) := dk_181 0 236 (dk_at dksX7_next_2 8 rfl rfl)
theorem dX7_next_59 : decode cX7_next 59 = .ok (.aload_n 0, 1) := dk_42 (dk_at dksX7_next_2 11 rfl rfl)
theorem dX7_next_60 : decode cX7_next 60 = .ok (.aload_n 0, 1) := dk_42 (dk_at dksX7_next_2 12 rfl rfl)
theorem dX7_next_61 : decode cX7_next 61 = .ok (.getfield 233, 3) := dk_180 0 233 (dk_at dksX7_next_2 13 rfl rfl)
theorem dX7_next_64 : decode cX7_next 64 = .ok (.aload_n 0, 1) := dk_42 (dk_at dksX7_next_2 16 rfl rfl)
theorem dX7_next_65 : decode cX7_next 65 = .ok (.getfield 169, 3) := dk_180 0 169 (dk_at dksX7_next_2 17 rfl rfl)
theorem dX7_next_68 : decode cX7_next 68 = .ok (.if_icmp .ne 7, 3) := dk_160 0 7 (dk_at dksX7_next_2 20 rfl rfl)
theorem dX7_next_71 : decode cX7_next 71 = .ok (.iconst 0, 1) := dk_3 (dk_at dksX7_next_2 23 rfl rfl)
theorem dX7_next_72 : decode cX7_next 72 = .ok (.goto 42, 3) := dk_167 0 42 (dk_at dksX7_next_3 0 rfl rfl)
theorem dX7_next_75 : decode cX7_next 75 = .ok (.aload_n 0, 1) := dk_42 (dk_at dksX7_next_3 3 rfl rfl)
theorem dX7_next_76 : decode cX7_next 76 = .ok (.getfield 27, 3) := dk_180 0 27 (dk_at dksX7_next_3 4 rfl rfl)
theorem dX7_next_79 : decode cX7_next 79 = .ok (.aload_n 0, 1) := dk_42 (dk_at dksX7_next_3 7 rfl rfl)
theorem dX7_next_80 : decode cX7_next 80 = .ok (.getfield 233, 3) := dk_180 0 233 (dk_at dksX7_next_3 8 rfl rfl)
theorem dX7_next_83 : decode cX7_next 83 = .ok (.iaload, 1) := dk_46 (dk_at dksX7_next_3 11 rfl rfl)
theorem dX7_next_84 : decode cX7_next 84 = .ok (.invokestatic 240, 3) := dk_184 0 240 (dk_at dksX7_next_3 12 rfl rfl)
theorem dX7_next_87 : decode cX7_next 87 = .ok (.ifCond .eq 7, 3) := dk_153 0 7 (dk_at dksX7_next_3 15 rfl rfl)
theorem dX7_next_90 : decode cX7_next 90 = .ok (.iconst 1, 1) := dk_4 (dk_at dksX7_next_3 18 rfl rfl)
theorem dX7_next_91 : decode cX7_next 91 = .ok (.goto 23, 3) := dk_167 0 23 (dk_at dksX7_next_3 19 rfl rfl)
theorem dX7_next_94 : decode cX7_next 94 = .ok (.aload_n 0, 1) := dk_42 (dk_at dksX7_next_3 22 rfl rfl)
theorem dX7_next_95 : decode cX7_next 95 = .ok (.getfield 27, 3) := dk_180 0 27 (dk_at dksX7_next_4 0 rfl rfl)
theorem dX7_next_98 : decode cX7_next 98 = .ok (.aload_n 0, 1) := dk_42 (dk_at dksX7_next_4 3 rfl rfl)
theorem dX7_next_99 : decode cX7_next 99 = .ok (.getfield 233, 3) := dk_180 0 233 (dk_at dksX7_next_4 4 rfl rfl)
theorem dX7_next_102 : decode cX7_next 102 = .ok (.iaload, 1) := dk_46 (dk_at dksX7_next_4 7 rfl rfl)
theorem dX7_next_103 : decode cX7_next 103 = .ok (.invokestatic 243, 3) := dk_184 0 243 (dk_at dksX7_next_4 8 rfl rfl)
theorem dX7_next_106 : decode cX7_next 106 = .ok (.ifCond .eq 7, 3) := dk_153 0 7 (dk_at dksX7_next_4 11 rfl rfl)
theorem dX7_next_109 : decode cX7_next 109 = .ok (.iconst 2, 1) := dk_5 (dk_at dksX7_next_4 14 rfl rfl)
theorem dX7_next_110 : decode cX7_next 110 = .ok (.goto 4, 3) := dk_167 0 4 (dk_at dksX7_next_4 15 rfl rfl)
theorem dX7_next_113 : decode cX7_next 113 = .ok (.iconst 3, 1) := dk_6 (dk_at dksX7_next_4 18 rfl rfl)
theorem dX7_next_114 : decode cX7_next 114 = .ok (.putfield 246, 3) := dk_181 0 246 (dk_at dksX7_next_4 19 rfl rfl)
theorem dX7_next_117 : decode cX7_next 117 = .ok (.aload_n 0, 1) := dk_42 (dk_at dksX7_next_4 22 rfl rfl)
theorem dX7_next_118 : decode cX7_next 118 = .ok (.getfield 246, 3) := dk_180 0 246 (dk_at dksX7_next_5 0 rfl rfl)
theorem dX7_next_121 : decode cX7_next 121 = .ok (.iconst 3, 1) := dk_6 (dk_at dksX7_next_5 3 rfl rfl)
theorem dX7_next_122 : decode cX7_next 122 = .ok (.if_icmp .ne 27, 3) := dk_160 0 27 (dk_at dksX7_next_5 4 rfl rfl)
theorem dX7_next_125 : decode cX7_next 125 = .ok (.aload_n 0, 1) := dk_42 (dk_at dksX7_next_5 7 rfl rfl)
theorem dX7_next_126 : decode cX7_next 126 = .ok (.aload_n 0, 1) := dk_42 (dk_at dksX7_next_5 8 rfl rfl)
theorem dX7_next_127 : decode cX7_next 127 = .ok (.getfield 27, 3) := dk_180 0 27 (dk_at dksX7_next_5 9 rfl rfl)
theorem dX7_next_130 : decode cX7_next 130 = .ok (.aload_n 0, 1) := dk_42 (dk_at dksX7_next_5 12 rfl rfl)
theorem dX7_next_131 : decode cX7_next 131 = .ok (.getfield 233, 3) := dk_180 0 233 (dk_at dksX7_next_5 13 rfl rfl)
theorem dX7_next_134 : decode cX7_next 134 = .ok (.iaload, 1) := dk_46 (dk_at dksX7_next_5 16 rfl rfl)
theorem dX7_next_135 : decode cX7_next 135 = .ok (.i2l, 1) := dk_133 (dk_at dksX7_next_5 17 rfl rfl)
theorem dX7_next_136 : decode cX7_next 136 = .ok (.putfield 236, 3) := dk_181 0 236 (dk_at dksX7_next_5 18 rfl rfl)
theorem dX7_next_139 : decode cX7_next 139 = .ok (.aload_n 0, 1) := dk_42 (dk_at dksX7_next_5 21 rfl rfl)
theorem dX7_next_140 : decode cX7_next 140 = .ok (.dup, 1) := dk_89 (dk_at dksX7_next_5 22 rfl rfl)
theorem dX7_next_141 : decode cX7_next 141 = .ok (.getfield 223, 3) := dk_180 0 223 (dk_at dksX7_next_6 0 rfl rfl)
theorem dX7_next_144 : decode cX7_next 144 = .ok (.iconst 1, 1) := dk_4 (dk_at dksX7_next_6 3 rfl rfl)
theorem dX7_next_145 : decode cX7_next 145 = .ok (.iadd, 1) := dk_96 (dk_at dksX7_next_6 4 rfl rfl)
theorem dX7_next_146 : decode cX7_next 146 = .ok (.putfield 223, 3) := dk_181 0 223 (dk_at dksX7_next_6 5 rfl rfl)
theorem dX7_next_149 : decode cX7_next 149 = .ok (.aload_n 0, 1) := dk_42 (dk_at dksX7_next_6 8 rfl rfl)
theorem dX7_next_150 : decode cX7_next 150 = .ok (.getfield 246, 3) := dk_180 0 246 (dk_at dksX7_next_6 9 rfl rfl)
theorem dX7_next_153 : decode cX7_next 153 = .ok (.iconst 1, 1) := dk_4 (dk_at dksX7_next_6 12 rfl rfl)
theorem dX7_next_154 : decode cX7_next 154 = .ok (.if_icmp .ne 89, 3) := dk_160 0 89 (dk_at dksX7_next_6 13 rfl rfl)
theorem dX7_next_157 : decode cX7_next 157 = .ok (.aload_n 0, 1) := dk_42 (dk_at dksX7_next_6 16 rfl rfl)
theorem dX7_next_158 : decode cX7_next 158 = .ok (.getfield 223, 3) := dk_180 0 223 (dk_at dksX7_next_6 17 rfl rfl)
theorem dX7_next_161 : decode cX7_next 161 = .ok (.aload_n 0, 1) := dk_42 (dk_at dksX7_next_6 20 rfl rfl)
theorem dX7_next_162 : decode cX7_next 162 = .ok (.getfield 169, 3) := dk_180 0 169 (dk_at dksX7_next_6 21 rfl rfl)
theorem dX7_next_165 : decode cX7_next 165 = .ok (.if_icmp .ge 78, 3) := dk_162 0 78 (dk_at dksX7_next_7 0 rfl rfl)
theorem dX7_next_168 : decode cX7_next 168 = .ok (.aload_n 0, 1) := dk_42 (dk_at dksX7_next_7 3 rfl rfl)
theorem dX7_next_169 : decode cX7_next 169 = .ok (.getfield 27, 3) := dk_180 0 27 (dk_at dksX7_next_7 4 rfl rfl)
theorem dX7_next_172 : decode cX7_next 172 = .ok (.aload_n 0, 1) := dk_42 (dk_at dksX7_next_7 7 rfl rfl)
theorem dX7_next_173 : decode cX7_next 173 = .ok (.getfield 223, 3) := dk_180 0 223 (dk_at dksX7_next_7 8 rfl rfl)
theorem dX7_next_176 : decode cX7_next 176 = .ok (.iaload, 1) := dk_46 (dk_at dksX7_next_7 11 rfl rfl)
theorem dX7_next_177 : decode cX7_next 177 = .ok (.invokestatic 240, 3) := dk_184 0 240 (dk_at dksX7_next_7 12 rfl rfl)
theorem dX7_next_180 : decode cX7_next 180 = .ok (.ifCond .eq 63, 3) := dk_153 0 63 (dk_at dksX7_next_7 15 rfl rfl)
theorem dX7_next_183 : decode cX7_next 183 = .ok (.aload_n 0, 1) := dk_42 (dk_at dksX7_next_7 18 rfl rfl)
theorem dX7_next_184 : decode cX7_next 184 = .ok (.aload_n 0, 1) := dk_42 (dk_at dksX7_next_7 19 rfl rfl)
theorem dX7_next_185 : decode cX7_next 185 = .ok (.getfield 223, 3) := dk_180 0 223 (dk_at dksX7_next_7 20 rfl rfl)
theorem dX7_next_188 : decode cX7_next 188 = .ok (.aload_n 0, 1) := dk_42 (dk_at dksX7_next_7 23 rfl rfl)
theorem dX7_next_189 : decode cX7_next 189 = .ok (.getfield 233, 3) := dk_180 0 233 (dk_at dksX7_next_8 0 rfl rfl)
theorem dX7_next_192 : decode cX7_next 192 = .ok (.isub, 1) := dk_100 (dk_at dksX7_next_8 3 rfl rfl)
theorem dX7_next_193 : decode cX7_next 193 = .ok (.bipush 10, 2) := dk_16 10 (dk_at dksX7_next_8 4 rfl rfl)
theorem dX7_next_195 : decode cX7_next 195 = .ok (.if_icmp .ge 29, 3) := dk_162 0 29 (dk_at dksX7_next_8 6 rfl rfl)
theorem dX7_next_198 : decode cX7_next 198 = .ok (.aload_n 0, 1) := dk_42 (dk_at dksX7_next_8 9 rfl rfl)
theorem dX7_next_199 : decode cX7_next 199 = .ok (.getfield 236, 3) := dk_180 0 236 (dk_at dksX7_next_8 10 rfl rfl)
theorem dX7_next_202 : decode cX7_next 202 = .ok (.ldc2_w 249, 3) := dk_20 0 249 (dk_at dksX7_next_8 13 rfl rfl)
theorem dX7_next_205 : decode cX7_next 205 = .ok (.lmul, 1) := dk_105 (dk_at dksX7_next_8 16 rfl rfl)
theorem dX7_next_206 : decode cX7_next 206 = .ok (.aload_n 0, 1) := dk_42 (dk_at dksX7_next_8 17 rfl rfl)
theorem dX7_next_207 : decode cX7_next 207 = .ok (.getfield 27, 3) := dk_180 0 27 (dk_at dksX7_next_8 18 rfl rfl)
theorem dX7_next_210 : decode cX7_next 210 = .ok (.aload_n 0, 1) := dk_42 (dk_at dksX7_next_8 21 rfl rfl)
theorem dX7_next_211 : decode cX7_next 211 = .ok (.getfield 223, 3) := dk_180 0 223 (dk_at dksX7_next_9 0 rfl rfl)
theorem dX7_next_214 : decode cX7_next 214 = .ok (.iaload, 1) := dk_46 (dk_at dksX7_next_9 3 rfl rfl)
theorem dX7_next_215 : decode cX7_next 215 = .ok (.i2l, 1) := dk_133 (dk_at dksX7_next_9 4 rfl rfl)
theorem dX7_next_216 : decode cX7_next 216 = .ok (.ladd, 1) := dk_97 (dk_at dksX7_next_9 5 rfl rfl)
theorem dX7_next_217 : decode cX7_next 217 = .ok (.ldc2_w 251, 3) := dk_20 0 251 (dk_at dksX7_next_9 6 rfl rfl)
theorem dX7_next_220 : decode cX7_next 220 = .ok (.lsub, 1) := dk_101 (dk_at dksX7_next_9 9 rfl rfl)
theorem dX7_next_221 : decode cX7_next 221 = .ok (.goto 6, 3) := dk_167 0 6 (dk_at dksX7_next_9 10 rfl rfl)
theorem dX7_next_224 : decode cX7_next 224 = .ok (.ldc2_w 253, 3) := dk_20 0 253 (dk_at dksX7_next_9 13 rfl rfl)
theorem dX7_next_227 : decode cX7_next 227 = .ok (.putfield 236, 3) := dk_181 0 236 (dk_at dksX7_next_9 16 rfl rfl)
theorem dX7_next_230 : decode cX7_next 230 = .ok (.aload_n 0, 1) := dk_42 (dk_at dksX7_next_9 19 rfl rfl)
theorem dX7_next_231 : decode cX7_next 231 = .ok (.dup, 1) := dk_89 (dk_at dksX7_next_9 20 rfl rfl)
theorem dX7_next_232 : decode cX7_next 232 = .ok (.getfield 223, 3) := dk_180 0 223 (dk_at dksX7_next_9 21 rfl rfl)
theorem dX7_next_235 : decode cX7_next 235 = .ok (.iconst 1, 1) := dk_4 (dk_at dksX7_next_10 0 rfl rfl)
theorem dX7_next_236 : decode cX7_next 236 = .ok (.iadd, 1) := dk_96 (dk_at dksX7_next_10 1 rfl rfl)
theorem dX7_next_237 : decode cX7_next 237 = .ok (.putfield 223, 3) := dk_181 0 223 (dk_at dksX7_next_10 2 rfl rfl)
theorem dX7_next_240 : decode cX7_next 240 = .ok (.goto (-91), 3) := dk_167 255 165 (dk_at dksX7_next_10 5 rfl rfl)
theorem dX7_next_243 : decode cX7_next 243 = .ok (.aload_n 0, 1) := dk_42 (dk_at dksX7_next_10 8 rfl rfl)
theorem dX7_next_244 : decode cX7_next 244 = .ok (.getfield 246, 3) := dk_180 0 246 (dk_at dksX7_next_10 9 rfl rfl)
theorem dX7_next_247 : decode cX7_next 247 = .ok (.iconst 2, 1) := dk_5 (dk_at dksX7_next_10 12 rfl rfl)
theorem dX7_next_248 : decode cX7_next 248 = .ok (.if_icmp .ne 87, 3) := dk_160 0 87 (dk_at dksX7_next_10 13 rfl rfl)
theorem dX7_next_251 : decode cX7_next 251 = .ok (.aload_n 0, 1) := dk_42 (dk_at dksX7_next_10 16 rfl rfl)
theorem dX7_next_252 : decode cX7_next 252 = .ok (.getfield 223, 3) := dk_180 0 223 (dk_at dksX7_next_10 17 rfl rfl)
theorem dX7_next_255 : decode cX7_next 255 = .ok (.aload_n 0, 1) := dk_42 (dk_at dksX7_next_10 20 rfl rfl)
theorem dX7_next_256 : decode cX7_next 256 = .ok (.getfield 169, 3) := dk_180 0 169 (dk_at dksX7_next_10 21 rfl rfl)
theorem dX7_next_259 : decode cX7_next 259 = .ok (.if_icmp .ge 76, 3) := dk_162 0 76 (dk_at dksX7_next_11 0 rfl rfl)
theorem dX7_next_262 : decode cX7_next 262 = .ok (.aload_n 0, 1) := dk_42 (dk_at dksX7_next_11 3 rfl rfl)
theorem dX7_next_263 : decode cX7_next 263 = .ok (.getfield 27, 3) := dk_180 0 27 (dk_at dksX7_next_11 4 rfl rfl)
theorem dX7_next_266 : decode cX7_next 266 = .ok (.aload_n 0, 1) := dk_42 (dk_at dksX7_next_11 7 rfl rfl)
theorem dX7_next_267 : decode cX7_next 267 = .ok (.getfield 223, 3) := dk_180 0 223 (dk_at dksX7_next_11 8 rfl rfl)
theorem dX7_next_270 : decode cX7_next 270 = .ok (.iaload, 1) := dk_46 (dk_at dksX7_next_11 11 rfl rfl)
theorem dX7_next_271 : decode cX7_next 271 = .ok (.invokestatic 243, 3) := dk_184 0 243 (dk_at dksX7_next_11 12 rfl rfl)
theorem dX7_next_274 : decode cX7_next 274 = .ok (.ifCond .eq 61, 3) := dk_153 0 61 (dk_at dksX7_next_11 15 rfl rfl)
theorem dX7_next_277 : decode cX7_next 277 = .ok (.aload_n 0, 1) := dk_42 (dk_at dksX7_next_11 18 rfl rfl)
theorem dX7_next_278 : decode cX7_next 278 = .ok (.aload_n 0, 1) := dk_42 (dk_at dksX7_next_11 19 rfl rfl)
theorem dX7_next_279 : decode cX7_next 279 = .ok (.getfield 236, 3) := dk_180 0 236 (dk_at dksX7_next_11 20 rfl rfl)
theorem dX7_next_282 : decode cX7_next 282 = .ok (.ldc2_w 255, 3) := dk_20 0 255 (dk_at dksX7_next_12 0 rfl rfl)
theorem dX7_next_285 : decode cX7_next 285 = .ok (.lcmp, 1) := dk_148 (dk_at dksX7_next_12 3 rfl rfl)
theorem dX7_next_286 : decode cX7_next 286 = .ok (.ifCond .le 10, 3) := dk_158 0 10 (dk_at dksX7_next_12 4 rfl rfl)
theorem dX7_next_289 : decode cX7_next 289 = .ok (.aload_n 0, 1) := dk_42 (dk_at dksX7_next_12 7 rfl rfl)
theorem dX7_next_290 : decode cX7_next 290 = .ok (.getfield 236, 3) := dk_180 0 236 (dk_at dksX7_next_12 8 rfl rfl)
theorem dX7_next_293 : decode cX7_next 293 = .ok (.goto 26, 3) := dk_167 0 26 (dk_at dksX7_next_12 11 rfl rfl)
theorem dX7_next_296 : decode cX7_next 296 = .ok (.aload_n 0, 1) := dk_42 (dk_at dksX7_next_12 14 rfl rfl)
theorem dX7_next_297 : decode cX7_next 297 = .ok (.getfield 236, 3) := dk_180 0 236 (dk_at dksX7_next_12 15 rfl rfl)
theorem dX7_next_300 : decode cX7_next 300 = .ok (.ldc2_w 257, 3) := dk_20 1 1 (dk_at dksX7_next_12 18 rfl rfl)
theorem dX7_next_303 : decode cX7_next 303 = .ok (.lmul, 1) := dk_105 (dk_at dksX7_next_12 21 rfl rfl)
theorem dX7_next_304 : decode cX7_next 304 = .ok (.aload_n 0, 1) := dk_42 (dk_at dksX7_next_12 22 rfl rfl)
theorem dX7_next_305 : decode cX7_next 305 = .ok (.getfield 27, 3) := dk_180 0 27 (dk_at dksX7_next_13 0 rfl rfl)
theorem dX7_next_308 : decode cX7_next 308 = .ok (.aload_n 0, 1) := dk_42 (dk_at dksX7_next_13 3 rfl rfl)
theorem dX7_next_309 : decode cX7_next 309 = .ok (.getfield 223, 3) := dk_180 0 223 (dk_at dksX7_next_13 4 rfl rfl)
theorem dX7_next_312 : decode cX7_next 312 = .ok (.iaload, 1) := dk_46 (dk_at dksX7_next_13 7 rfl rfl)
theorem dX7_next_313 : decode cX7_next 313 = .ok (.i2l, 1) := dk_133 (dk_at dksX7_next_13 8 rfl rfl)
theorem dX7_next_314 : decode cX7_next 314 = .ok (.ladd, 1) := dk_97 (dk_at dksX7_next_13 9 rfl rfl)
theorem dX7_next_315 : decode cX7_next 315 = .ok (.ldc2_w 259, 3) := dk_20 1 3 (dk_at dksX7_next_13 10 rfl rfl)
theorem dX7_next_318 : decode cX7_next 318 = .ok (.lsub, 1) := dk_101 (dk_at dksX7_next_13 13 rfl rfl)
theorem dX7_next_319 : decode cX7_next 319 = .ok (.putfield 236, 3) := dk_181 0 236 (dk_at dksX7_next_13 14 rfl rfl)
theorem dX7_next_322 : decode cX7_next 322 = .ok (.aload_n 0, 1) := dk_42 (dk_at dksX7_next_13 17 rfl rfl)
theorem dX7_next_323 : decode cX7_next 323 = .ok (.dup, 1) := dk_89 (dk_at dksX7_next_13 18 rfl rfl)
theorem dX7_next_324 : decode cX7_next 324 = .ok (.getfield 223, 3) := dk_180 0 223 (dk_at dksX7_next_13 19 rfl rfl)
theorem dX7_next_327 : decode cX7_next 327 = .ok (.iconst 1, 1) := dk_4 (dk_at dksX7_next_13 22 rfl rfl)
theorem dX7_next_328 : decode cX7_next 328 = .ok (.iadd, 1) := dk_96 (dk_at dksX7_next_13 23 rfl rfl)
theorem dX7_next_329 : decode cX7_next 329 = .ok (.putfield 223, 3) := dk_181 0 223 (dk_at dksX7_next_14 0 rfl rfl)
theorem dX7_next_332 : decode cX7_next 332 = .ok (.goto (-89), 3) := dk_167 255 167 (dk_at dksX7_next_14 3 rfl rfl)
theorem dX7_next_335 : decode cX7_next 335 = .ok (.return_, 1) := dk_177 (dk_at dksX7_next_14 6 rfl rfl)
