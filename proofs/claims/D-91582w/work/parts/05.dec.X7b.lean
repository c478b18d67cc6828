set_option maxRecDepth 100000
def dkwX7_isSmall_0 : List UInt8 := [26, 16, 97, 161, 0, 13, 26, 16, 122, 163, 0, 7, 4, 167, 0, 4, 3, 172]
abbrev dktX7_isSmall_0 : List UInt8 := dkwX7_isSmall_0 ++ []
theorem dksX7_isSmall_0 : cX7_isSmall.data.toList.drop 0 = dktX7_isSmall_0 := by decide +kernel
theorem dX7_isSmall_0 : decode cX7_isSmall 0 = .ok (.iload_n 0, 1) := dk_26 (dk_at dksX7_isSmall_0 0 rfl rfl)
theorem dX7_isSmall_1 : decode cX7_isSmall 1 = .ok (.bipush 97, 2) := dk_16 97 (dk_at dksX7_isSmall_0 1 rfl rfl)
theorem dX7_isSmall_3 : decode cX7_isSmall 3 = .ok (.if_icmp .lt 13, 3) := dk_161 0 13 (dk_at dksX7_isSmall_0 3 rfl rfl)
theorem dX7_isSmall_6 : decode cX7_isSmall 6 = .ok (.iload_n 0, 1) := dk_26 (dk_at dksX7_isSmall_0 6 rfl rfl)
theorem dX7_isSmall_7 : decode cX7_isSmall 7 = .ok (.bipush 122, 2) := dk_16 122 (dk_at dksX7_isSmall_0 7 rfl rfl)
theorem dX7_isSmall_9 : decode cX7_isSmall 9 = .ok (.if_icmp .gt 7, 3) := dk_163 0 7 (dk_at dksX7_isSmall_0 9 rfl rfl)
theorem dX7_isSmall_12 : decode cX7_isSmall 12 = .ok (.iconst 1, 1) := dk_4 (dk_at dksX7_isSmall_0 12 rfl rfl)
theorem dX7_isSmall_13 : decode cX7_isSmall 13 = .ok (.goto 4, 3) := dk_167 0 4 (dk_at dksX7_isSmall_0 13 rfl rfl)
theorem dX7_isSmall_16 : decode cX7_isSmall 16 = .ok (.iconst 0, 1) := dk_3 (dk_at dksX7_isSmall_0 16 rfl rfl)
theorem dX7_isSmall_17 : decode cX7_isSmall 17 = .ok (.ireturn, 1) := dk_172 (dk_at dksX7_isSmall_0 17 rfl rfl)
def dkwX7_isDigit_0 : List UInt8 := [26, 16, 48, 161, 0, 13, 26, 16, 57, 163, 0, 7, 4, 167, 0, 4, 3, 172]
abbrev dktX7_isDigit_0 : List UInt8 := dkwX7_isDigit_0 ++ []
theorem dksX7_isDigit_0 : cX7_isDigit.data.toList.drop 0 = dktX7_isDigit_0 := by decide +kernel
theorem dX7_isDigit_0 : decode cX7_isDigit 0 = .ok (.iload_n 0, 1) := dk_26 (dk_at dksX7_isDigit_0 0 rfl rfl)
theorem dX7_isDigit_1 : decode cX7_isDigit 1 = .ok (.bipush 48, 2) := dk_16 48 (dk_at dksX7_isDigit_0 1 rfl rfl)
theorem dX7_isDigit_3 : decode cX7_isDigit 3 = .ok (.if_icmp .lt 13, 3) := dk_161 0 13 (dk_at dksX7_isDigit_0 3 rfl rfl)
theorem dX7_isDigit_6 : decode cX7_isDigit 6 = .ok (.iload_n 0, 1) := dk_26 (dk_at dksX7_isDigit_0 6 rfl rfl)
theorem dX7_isDigit_7 : decode cX7_isDigit 7 = .ok (.bipush 57, 2) := dk_16 57 (dk_at dksX7_isDigit_0 7 rfl rfl)
theorem dX7_isDigit_9 : decode cX7_isDigit 9 = .ok (.if_icmp .gt 7, 3) := dk_163 0 7 (dk_at dksX7_isDigit_0 9 rfl rfl)
theorem dX7_isDigit_12 : decode cX7_isDigit 12 = .ok (.iconst 1, 1) := dk_4 (dk_at dksX7_isDigit_0 12 rfl rfl)
theorem dX7_isDigit_13 : decode cX7_isDigit 13 = .ok (.goto 4, 3) := dk_167 0 4 (dk_at dksX7_isDigit_0 13 rfl rfl)
theorem dX7_isDigit_16 : decode cX7_isDigit 16 = .ok (.iconst 0, 1) := dk_3 (dk_at dksX7_isDigit_0 16 rfl rfl)
theorem dX7_isDigit_17 : decode cX7_isDigit 17 = .ok (.ireturn, 1) := dk_172 (dk_at dksX7_isDigit_0 17 rfl rfl)
def dkwX7_readClause_10 : List UInt8 := [79, 177]
abbrev dktX7_readClause_10 : List UInt8 := dkwX7_readClause_10 ++ []
def dkwX7_readClause_9 : List UInt8 := [153, 0, 12, 42, 182, 0, 230, 42, 4, 182, 1, 156, 42, 180, 0, 34, 28, 16, 6, 96, 42, 180, 1, 9]
abbrev dktX7_readClause_9 : List UInt8 := dkwX7_readClause_9 ++ dktX7_readClause_10
def dkwX7_readClause_8 : List UInt8 := [28, 8, 96, 42, 180, 1, 9, 79, 42, 180, 0, 226, 154, 0, 22, 42, 20, 1, 159, 182, 1, 31]
abbrev dktX7_readClause_8 : List UInt8 := dkwX7_readClause_8 ++ dktX7_readClause_9
def dkwX7_readClause_7 : List UInt8 := [161, 0, 8, 42, 3, 182, 1, 156, 42, 180, 0, 34, 28, 7, 96, 42, 180, 1, 9, 79, 42, 180, 0, 34]
abbrev dktX7_readClause_7 : List UInt8 := dkwX7_readClause_7 ++ dktX7_readClause_8
def dkwX7_readClause_6 : List UInt8 := [96, 42, 9, 20, 1, 154, 182, 1, 146, 79, 42, 180, 0, 34, 28, 6, 96, 42, 180, 1, 9, 79, 27, 8]
abbrev dktX7_readClause_6 : List UInt8 := dkwX7_readClause_6 ++ dktX7_readClause_7
def dkwX7_readClause_5 : List UInt8 := [28, 5, 96, 42, 9, 20, 1, 152, 182, 1, 146, 79, 177, 27, 6, 160, 0, 19, 42, 180, 0, 34, 28, 4]
abbrev dktX7_readClause_5 : List UInt8 := dkwX7_readClause_5 ++ dktX7_readClause_6
def dkwX7_readClause_4 : List UInt8 := [42, 9, 20, 1, 144, 182, 1, 146, 79, 42, 42, 20, 1, 150, 182, 1, 31, 182, 1, 5, 42, 180, 0, 34]
abbrev dktX7_readClause_4 : List UInt8 := dkwX7_readClause_4 ++ dktX7_readClause_5
def dkwX7_readClause_3 : List UInt8 := [28, 27, 79, 42, 89, 180, 1, 141, 4, 96, 181, 1, 141, 27, 154, 0, 47, 42, 180, 0, 34, 28, 4, 96]
abbrev dktX7_readClause_3 : List UInt8 := dkwX7_readClause_3 ++ dktX7_readClause_4
def dkwX7_readClause_2 : List UInt8 := [16, 8, 162, 0, 18, 42, 180, 0, 34, 28, 29, 96, 3, 79, 132, 3, 1, 167, 255, 238, 42, 180, 0, 34]
abbrev dktX7_readClause_2 : List UInt8 := dkwX7_readClause_2 ++ dktX7_readClause_3
def dkwX7_readClause_1 : List UInt8 := [3, 182, 1, 5, 42, 180, 0, 226, 153, 0, 4, 177, 16, 8, 42, 180, 1, 141, 104, 61, 3, 62, 29]
abbrev dktX7_readClause_1 : List UInt8 := dkwX7_readClause_1 ++ dktX7_readClause_2
def dkwX7_readClause_0 : List UInt8 := [42, 182, 1, 138, 60, 42, 27, 2, 159, 0, 16, 42, 180, 1, 141, 16, 12, 162, 0, 7, 4, 167, 0, 4]
abbrev dktX7_readClause_0 : List UInt8 := dkwX7_readClause_0 ++ dktX7_readClause_1
theorem dksX7_readClause_0 : cX7_readClause.data.toList.drop 0 = dktX7_readClause_0 := by decide +kernel
theorem dksX7_readClause_1 : cX7_readClause.data.toList.drop 24 = dktX7_readClause_1 := dk_seg dksX7_readClause_0 24 rfl rfl
theorem dksX7_readClause_2 : cX7_readClause.data.toList.drop 47 = dktX7_readClause_2 := dk_seg dksX7_readClause_1 23 rfl rfl
theorem dksX7_readClause_3 : cX7_readClause.data.toList.drop 71 = dktX7_readClause_3 := dk_seg dksX7_readClause_2 24 rfl rfl
theorem dksX7_readClause_4 : cX7_readClause.data.toList.drop 95 = dktX7_readClause_4 := dk_seg dksX7_readClause_3 24 rfl rfl
theorem dksX7_readClause_5 : cX7_readClause.data.toList.drop 119 = dktX7_readClause_5 := dk_seg dksX7_readClause_4 24 rfl rfl
theorem dksX7_readClause_6 : cX7_readClause.data.toList.drop 143 = dktX7_readClause_6 := dk_seg dksX7_readClause_5 24 rfl rfl
theorem dksX7_readClause_7 : cX7_readClause.data.toList.drop 167 = dktX7_readClause_7 := dk_seg dksX7_readClause_6 24 rfl rfl
theorem dksX7_readClause_8 : cX7_readClause.data.toList.drop 191 = dktX7_readClause_8 := dk_seg dksX7_readClause_7 24 rfl rfl
theorem dksX7_readClause_9 : cX7_readClause.data.toList.drop 213 = dktX7_readClause_9 := dk_seg dksX7_readClause_8 22 rfl rfl
theorem dksX7_readClause_10 : cX7_readClause.data.toList.drop 237 = dktX7_readClause_10 := dk_seg dksX7_readClause_9 24 rfl rfl
theorem dX7_readClause_0 : decode cX7_readClause 0 = .ok (.aload_n 0, 1) := dk_42 (dk_at dksX7_readClause_0 0 rfl rfl)
theorem dX7_readClause_1 : decode cX7_readClause 1 = .ok (.invokevirtual 394, 3) := dk_182 1 138 (dk_at dksX7_readClause_0 1 rfl rfl)
theorem dX7_readClause_4 : decode cX7_readClause 4 = .ok (.istore_n 1, 1) := dk_60 (dk_at dksX7_readClause_0 4 rfl rfl)
theorem dX7_readClause_5 : decode cX7_readClause 5 = .ok (.aload_n 0, 1) := dk_42 (dk_at dksX7_readClause_0 5 rfl rfl)
theorem dX7_readClause_6 : decode cX7_readClause 6 = .ok (.iload_n 1, 1) := dk_27 (dk_at dksX7_readClause_0 6 rfl rfl)
theorem dX7_readClause_7 : decode cX7_readClause 7 = .ok (.iconst (-1), 1) := dk_2 (dk_at dksX7_readClause_0 7 rfl rfl)
theorem dX7_readClause_8 : decode cX7_readClause 8 = .ok (.if_icmp .eq 16, 3) := dk_159 0 16 (dk_at dksX7_readClause_0 8 rfl rfl)
theorem dX7_readClause_11 : decode cX7_readClause 11 = .ok (.aload_n 0, 1) := dk_42 (dk_at dksX7_readClause_0 11 rfl rfl)
theorem dX7_readClause_12 : decode cX7_readClause 12 = .ok (.getfield 397, 3) := dk_180 1 141 (dk_at dksX7_readClause_0 12 rfl rfl)
theorem dX7_readClause_15 : decode cX7_readClause 15 = .ok (.bipush 12, 2) := dk_16 12 (dk_at dksX7_readClause_0 15 rfl rfl)
theorem dX7_readClause_17 : decode cX7_readClause 17 = .ok (.if_icmp .ge 7, 3) := dk_162 0 7 (dk_at dksX7_readClause_0 17 rfl rfl)
theorem dX7_readClause_20 : decode cX7_readClause 20 = .ok (.iconst 1, 1) := dk_4 (dk_at dksX7_readClause_0 20 rfl rfl)
theorem dX7_readClause_21 : decode cX7_readClause 21 = .ok (.goto 4, 3) := dk_167 0 4 (dk_at dksX7_readClause_0 21 rfl rfl)
theorem dX7_readClause_24 : decode cX7_readClause 24 = .ok (.iconst 0, 1) := dk_3 (dk_at dksX7_readClause_1 0 rfl rfl)
theorem dX7_readClause_25 : decode cX7_readClause 25 = .ok (.invokevirtual 261, 3) := dk_182 1 5 (dk_at dksX7_readClause_1 1 rfl rfl)
theorem dX7_readClause_28 : decode cX7_readClause 28 = .ok (.aload_n 0, 1) := dk_42 (dk_at dksX7_readClause_1 4 rfl rfl)
theorem dX7_readClause_29 : decode cX7_readClause 29 = .ok (.getfield 226, 3) := dk_180 0 226 (dk_at dksX7_readClause_1 5 rfl rfl)
theorem dX7_readClause_32 : decode cX7_readClause 32 = .ok (.ifCond .eq 4, 3) := dk_153 0 4 (dk_at dksX7_readClause_1 8 rfl rfl)
theorem dX7_readClause_35 : decode cX7_readClause 35 = .ok (.return_, 1) := dk_177 (dk_at dksX7_readClause_1 11 rfl rfl)
theorem dX7_readClause_36 : decode cX7_readClause 36 = .ok (.bipush 8, 2) := dk_16 8 (dk_at dksX7_readClause_1 12 rfl rfl)
theorem dX7_readClause_38 : decode cX7_readClause 38 = .ok (.aload_n 0, 1) := dk_42 (dk_at dksX7_readClause_1 14 rfl rfl)
theorem dX7_readClause_39 : decode cX7_readClause 39 = .ok (.getfield 397, 3) := dk_180 1 141 (dk_at dksX7_readClause_1 15 rfl rfl)
theorem dX7_readClause_42 : decode cX7_readClause 42 = .ok (.imul, 1) := dk_104 (dk_at dksX7_readClause_1 18 rfl rfl)
theorem dX7_readClause_43 : decode cX7_readClause 43 = .ok (.istore_n 2, 1) := dk_61 (dk_at dksX7_readClause_1 19 rfl rfl)
theorem dX7_readClause_44 : decode cX7_readClause 44 = .ok (.iconst 0, 1) := dk_3 (dk_at dksX7_readClause_1 20 rfl rfl)
theorem dX7_readClause_45 : decode cX7_readClause 45 = .ok (.istore_n 3, 1) := dk_62 (dk_at dksX7_readClause_1 21 rfl rfl)
theorem dX7_readClause_46 : decode cX7_readClause 46 = .ok (.iload_n 3, 1) := dk_29 (dk_at dksX7_readClause_1 22 rfl rfl)
theorem dX7_readClause_47 : decode cX7_readClause 47 = .ok (.bipush 8, 2) := dk_16 8 (dk_at dksX7_readClause_2 0 rfl rfl)
theorem dX7_readClause_49 : decode cX7_readClause 49 = .ok (.if_icmp .ge 18, 3) := dk_162 0 18 (dk_at dksX7_readClause_2 2 rfl rfl)
theorem dX7_readClause_52 : decode cX7_readClause 52 = .ok (.aload_n 0, 1) := dk_42 (dk_at dksX7_readClause_2 5 rfl rfl)
theorem dX7_readClause_53 : decode cX7_readClause 53 = .ok (.getfield 34, 3) := dk_180 0 34 (dk_at dksX7_readClause_2 6 rfl rfl)
theorem dX7_readClause_56 : decode cX7_readClause 56 = .ok (.iload_n 2, 1) := dk_28 (dk_at dksX7_readClause_2 9 rfl rfl)
theorem dX7_readClause_57 : decode cX7_readClause 57 = .ok (.iload_n 3, 1) := dk_29 (dk_at dksX7_readClause_2 10 rfl rfl)
theorem dX7_readClause_58 : decode cX7_readClause 58 = .ok (.iadd, 1) := dk_96 (dk_at dksX7_readClause_2 11 rfl rfl)
theorem dX7_readClause_59 : decode cX7_readClause 59 = .ok (.iconst 0, 1) := dk_3 (dk_at dksX7_readClause_2 12 rfl rfl)
theorem dX7_readClause_60 : decode cX7_readClause 60 = .ok (.iastore, 1) := dk_79 (dk_at dksX7_readClause_2 13 rfl rfl)
theorem dX7_readClause_61 : decode cX7_readClause 61 = .ok (.iinc 3 1, 3) := dk_132 3 1 (dk_at dksX7_readClause_2 14 rfl rfl)
theorem dX7_readClause_64 : decode cX7_readClause 64 = .ok (.goto (-18), 3) := dk_167 255 238 (dk_at dksX7_readClause_2 17 rfl rfl)
theorem dX7_readClause_67 : decode cX7_readClause 67 = .ok (.aload_n 0, 1) := dk_42 (dk_at dksX7_readClause_2 20 rfl rfl)
theorem dX7_readClause_68 : decode cX7_readClause 68 = .ok (.getfield 34, 3) := dk_180 0 34 (dk_at dksX7_readClause_2 21 rfl rfl)
theorem dX7_readClause_71 : decode cX7_readClause 71 = .ok (.iload_n 2, 1) := dk_28 (dk_at dksX7_readClause_3 0 rfl rfl)
theorem dX7_readClause_72 : decode cX7_readClause 72 = .ok (.iload_n 1, 1) := dk_27 (dk_at dksX7_readClause_3 1 rfl rfl)
theorem dX7_readClause_73 : decode cX7_readClause 73 = .ok (.iastore, 1) := dk_79 (dk_at dksX7_readClause_3 2 rfl rfl)
theorem dX7_readClause_74 : decode cX7_readClause 74 = .ok (.aload_n 0, 1) := dk_42 (dk_at dksX7_readClause_3 3 rfl rfl)
theorem dX7_readClause_75 : decode cX7_readClause 75 = .ok (.dup, 1) := dk_89 (dk_at dksX7_readClause_3 4 rfl rfl)
theorem dX7_readClause_76 : decode cX7_readClause 76 = .ok (.getfield 397, 3) := dk_180 1 141 (dk_at dksX7_readClause_3 5 rfl rfl)
theorem dX7_readClause_79 : decode cX7_readClause 79 = .ok (.iconst 1, 1) := dk_4 (dk_at dksX7_readClause_3 8 rfl rfl)
theorem dX7_readClause_80 : decode cX7_readClause 80 = .ok (.iadd, 1) := dk_96 (dk_at dksX7_readClause_3 9 rfl rfl)
theorem dX7_readClause_81 : decode cX7_readClause 81 = .ok (.putfield 397, 3) := dk_181 1 141 (dk_at dksX7_readClause_3 10 rfl rfl)
theorem dX7_readClause_84 : decode cX7_readClause 84 = .ok (.iload_n 1, 1) := dk_27 (dk_at dksX7_readClause_3 13 rfl rfl)
theorem dX7_readClause_85 : decode cX7_readClause 85 = .ok (.ifCond .ne 47, 3) := dk_154 0 47 (dk_at dksX7_readClause_3 14 rfl rfl)
theorem dX7_readClause_88 : decode cX7_readClause 88 = .ok (.aload_n 0, 1) := dk_42 (dk_at dksX7_readClause_3 17 rfl rfl)
theorem dX7_readClause_89 : decode cX7_readClause 89 = .ok (.getfield 34, 3) := dk_180 0 34 (dk_at dksX7_readClause_3 18 rfl rfl)
theorem dX7_readClause_92 : decode cX7_readClause 92 = .ok (.iload_n 2, 1) := dk_28 (dk_at dksX7_readClause_3 21 rfl rfl)
theorem dX7_readClause_93 : decode cX7_readClause 93 = .ok (.iconst 1, 1) := dk_4 (dk_at dksX7_readClause_3 22 rfl rfl)
theorem dX7_readClause_94 : decode cX7_readClause 94 = .ok (.iadd, 1) := dk_96 (dk_at dksX7_readClause_3 23 rfl rfl)
theorem dX7_readClause_95 : decode cX7_readClause 95 = .ok (.aload_n 0, 1) := dk_42 (dk_at dksX7_readClause_4 0 rfl rfl)
theorem dX7_readClause_96 : decode cX7_readClause 96 = .ok (.lconst 0, 1) := dk_9 (dk_at dksX7_readClause_4 1 rfl rfl)
theorem dX7_readClause_97 : decode cX7_readClause 97 = .ok (.ldc2_w 400, 3) := dk_20 1 144 (dk_at dksX7_readClause_4 2 rfl rfl)
theorem dX7_readClause_100 : decode cX7_readClause 100 = .ok (.invokevirtual 402, 3) := dk_182 1 146 (dk_at dksX7_readClause_4 5 rfl rfl)
theorem dX7_readClause_103 : decode cX7_readClause 103 = .ok (.iastore, 1) := dk_79 (dk_at dksX7_readClause_4 8 rfl rfl)
theorem dX7_readClause_104 : decode cX7_readClause 104 = .ok (.aload_n 0, 1) := dk_42 (dk_at dksX7_readClause_4 9 rfl rfl)
theorem dX7_readClause_105 : decode cX7_readClause 105 = .ok (.aload_n 0, 1) := dk_42 (dk_at dksX7_readClause_4 10 rfl rfl)
theorem dX7_readClause_106 : decode cX7_readClause 106 = .ok (.ldc2_w 406, 3) := dk_20 1 150 (dk_at dksX7_readClause_4 11 rfl rfl)
theorem dX7_readClause_109 : decode cX7_readClause 109 = .ok (.invokevirtual 287, 3) := dk_182 1 31 (dk_at dksX7_readClause_4 14 rfl rfl)
theorem dX7_readClause_112 : decode cX7_readClause 112 = .ok (.invokevirtual 261, 3) := dk_182 1 5 (dk_at dksX7_readClause_4 17 rfl rfl)
theorem dX7_readClause_115 : decode cX7_readClause 115 = .ok (.aload_n 0, 1) := dk_42 (dk_at dksX7_readClause_4 20 rfl rfl)
theorem dX7_readClause_116 : decode cX7_readClause 116 = .ok (.getfield 34, 3) := dk_180 0 34 (dk_at dksX7_readClause_4 21 rfl rfl)
theorem dX7_readClause_119 : decode cX7_readClause 119 = .ok (.iload_n 2, 1) := dk_28 (dk_at dksX7_readClause_5 0 rfl rfl)
theorem dX7_readClause_120 : decode cX7_readClause 120 = .ok (.iconst 2, 1) := dk_5 (dk_at dksX7_readClause_5 1 rfl rfl)
theorem dX7_readClause_121 : decode cX7_readClause 121 = .ok (.iadd, 1) := dk_96 (dk_at dksX7_readClause_5 2 rfl rfl)
theorem dX7_readClause_122 : decode cX7_readClause 122 = .ok (.aload_n 0, 1) := dk_42 (dk_at dksX7_readClause_5 3 rfl rfl)
theorem dX7_readClause_123 : decode cX7_readClause 123 = .ok (.lconst 0, 1) := dk_9 (dk_at dksX7_readClause_5 4 rfl rfl)
theorem dX7_readClause_124 : decode cX7_readClause 124 = .ok (.ldc2_w 408, 3) := dk_20 1 152 (dk_at dksX7_readClause_5 5 rfl rfl)
theorem dX7_readClause_127 : decode cX7_readClause 127 = .ok (.invokevirtual 402, 3) := dk_182 1 146 (dk_at dksX7_readClause_5 8 rfl rfl)
theorem dX7_readClause_130 : decode cX7_readClause 130 = .ok (.iastore, 1) := dk_79 (dk_at dksX7_readClause_5 11 rfl rfl)
theorem dX7_readClause_131 : decode cX7_readClause 131 = .ok (.return_, 1) := dk_177 (dk_at dksX7_readClause_5 12 rfl rfl)
theorem dX7_readClause_132 : decode cX7_readClause 132 = .ok (.iload_n 1, 1) := dk_27 (dk_at dksX7_readClause_5 13 rfl rfl)
theorem dX7_readClause_133 : decode cX7_readClause 133 = .ok (.iconst 3, 1) := dk_6 (dk_at dksX7_readClause_5 14 rfl rfl)
theorem dX7_readClause_134 : decode cX7_readClause 134 = .ok (.if_icmp .ne 19, 3) := dk_160 0 19 (dk_at dksX7_readClause_5 15 rfl rfl)
theorem dX7_readClause_137 : decode cX7_readClause 137 = .ok (.aload_n 0, 1) := dk_42 (dk_at dksX7_readClause_5 18 rfl rfl)
theorem dX7_readClause_138 : decode cX7_readClause 138 = .ok (.getfield 34, 3) := dk_180 0 34 (dk_at dksX7_readClause_5 19 rfl rfl)
theorem dX7_readClause_141 : decode cX7_readClause 141 = .ok (.iload_n 2, 1) := dk_28 (dk_at dksX7_readClause_5 22 rfl rfl)
theorem dX7_readClause_142 : decode cX7_readClause 142 = .ok (.iconst 1, 1) := dk_4 (dk_at dksX7_readClause_5 23 rfl rfl)
theorem dX7_readClause_143 : decode cX7_readClause 143 = .ok (.iadd, 1) := dk_96 (dk_at dksX7_readClause_6 0 rfl rfl)
theorem dX7_readClause_144 : decode cX7_readClause 144 = .ok (.aload_n 0, 1) := dk_42 (dk_at dksX7_readClause_6 1 rfl rfl)
theorem dX7_readClause_145 : decode cX7_readClause 145 = .ok (.lconst 0, 1) := dk_9 (dk_at dksX7_readClause_6 2 rfl rfl)
theorem dX7_readClause_146 : decode cX7_readClause 146 = .ok (.ldc2_w 410, 3) := dk_20 1 154 (dk_at dksX7_readClause_6 3 rfl rfl)
theorem dX7_readClause_149 : decode cX7_readClause 149 = .ok (.invokevirtual 402, 3) := dk_182 1 146 (dk_at dksX7_readClause_6 6 rfl rfl)
theorem dX7_readClause_152 : decode cX7_readClause 152 = .ok (.iastore, 1) := dk_79 (dk_at dksX7_readClause_6 9 rfl rfl)
theorem dX7_readClause_153 : decode cX7_readClause 153 = .ok (.aload_n 0, 1) := dk_42 (dk_at dksX7_readClause_6 10 rfl rfl)
theorem dX7_readClause_154 : decode cX7_readClause 154 = .ok (.getfield 34, 3) := dk_180 0 34 (dk_at dksX7_readClause_6 11 rfl rfl)
theorem dX7_readClause_157 : decode cX7_readClause 157 = .ok (.iload_n 2, 1) := dk_28 (dk_at dksX7_readClause_6 14 rfl rfl)
theorem dX7_readClause_158 : decode cX7_readClause 158 = .ok (.iconst 3, 1) := dk_6 (dk_at dksX7_readClause_6 15 rfl rfl)
theorem dX7_readClause_159 : decode cX7_readClause 159 = .ok (.iadd, 1) := dk_96 (dk_at dksX7_readClause_6 16 rfl rfl)
theorem dX7_readClause_160 : decode cX7_readClause 160 = .ok (.aload_n 0, 1) := dk_42 (dk_at dksX7_readClause_6 17 rfl rfl)
theorem dX7_readClause_161 : decode cX7_readClause 161 = .ok (.getfield 265, 3) := dk_180 1 9 (dk_at dksX7_readClause_6 18 rfl rfl)
theorem dX7_readClause_164 : decode cX7_readClause 164 = .ok (.iastore, 1) := dk_79 (dk_at dksX7_readClause_6 21 rfl rfl)
theorem dX7_readClause_165 : decode cX7_readClause 165 = .ok (.iload_n 1, 1) := dk_27 (dk_at dksX7_readClause_6 22 rfl rfl)
theorem dX7_readClause_166 : decode cX7_readClause 166 = .ok (.iconst 5, 1) := dk_8 (dk_at dksX7_readClause_6 23 rfl rfl)
theorem dX7_readClause_167 : decode cX7_readClause 167 = .ok (.if_icmp .lt 8, 3) := dk_161 0 8 (dk_at dksX7_readClause_7 0 rfl rfl)
theorem dX7_readClause_170 : decode cX7_readClause 170 = .ok (.aload_n 0, 1) := dk_42 (dk_at dksX7_readClause_7 3 rfl rfl)
theorem dX7_readClause_171 : decode cX7_readClause 171 = .ok (.iconst 0, 1) := dk_3 (dk_at dksX7_readClause_7 4 rfl rfl)
theorem dX7_readClause_172 : decode cX7_readClause 172 = .ok (.invokevirtual 412, 3) := dk_182 1 156 (dk_at dksX7_readClause_7 5 rfl rfl)
theorem dX7_readClause_175 : decode cX7_readClause 175 = .ok (.aload_n 0, 1) := dk_42 (dk_at dksX7_readClause_7 8 rfl rfl)
theorem dX7_readClause_176 : decode cX7_readClause 176 = .ok (.getfield 34, 3) := dk_180 0 34 (dk_at dksX7_readClause_7 9 rfl rfl)
theorem dX7_readClause_179 : decode cX7_readClause 179 = .ok (.iload_n 2, 1) := dk_28 (dk_at dksX7_readClause_7 12 rfl rfl)
theorem dX7_readClause_180 : decode cX7_readClause 180 = .ok (.iconst 4, 1) := dk_7 (dk_at dksX7_readClause_7 13 rfl rfl)
theorem dX7_readClause_181 : decode cX7_readClause 181 = .ok (.iadd, 1) := dk_96 (dk_at dksX7_readClause_7 14 rfl rfl)
theorem dX7_readClause_182 : decode cX7_readClause 182 = .ok (.aload_n 0, 1) := dk_42 (dk_at dksX7_readClause_7 15 rfl rfl)
theorem dX7_readClause_183 : decode cX7_readClause 183 = .ok (.getfield 265, 3) := dk_180 1 9 (dk_at dksX7_readClause_7 16 rfl rfl)
theorem dX7_readClause_186 : decode cX7_readClause 186 = .ok (.iastore, 1) := dk_79 (dk_at dksX7_readClause_7 19 rfl rfl)
theorem dX7_readClause_187 : decode cX7_readClause 187 = .ok (.aload_n 0, 1) := dk_42 (dk_at dksX7_readClause_7 20 rfl rfl)
theorem dX7_readClause_188 : decode cX7_readClause 188 = .ok (.getfield 34, 3) := dk_180 0 34 (dk_at dksX7_readClause_7 21 rfl rfl)
theorem dX7_readClause_191 : decode cX7_readClause 191 = .ok (.iload_n 2, 1) := dk_28 (dk_at dksX7_readClause_8 0 rfl rfl)
theorem dX7_readClause_192 : decode cX7_readClause 192 = .ok (.iconst 5, 1) := dk_8 (dk_at dksX7_readClause_8 1 rfl rfl)
theorem dX7_readClause_193 : decode cX7_readClause 193 = .ok (.iadd, 1) := dk_96 (dk_at dksX7_readClause_8 2 rfl rfl)
theorem dX7_readClause_194 : decode cX7_readClause 194 = .ok (.aload_n 0, 1) := dk_42 (dk_at dksX7_readClause_8 3 rfl rfl)
theorem dX7_readClause_195 : decode cX7_readClause 195 = .ok (.getfield 265, 3) := dk_180 1 9 (dk_at dksX7_readClause_8 4 rfl rfl)
theorem dX7_readClause_198 : decode cX7_readClause 198 = .ok (.iastore, 1) := dk_79 (dk_at dksX7_readClause_8 7 rfl rfl)
theorem dX7_readClause_199 : decode cX7_readClause 199 = .ok (.aload_n 0, 1) := dk_42 (dk_at dksX7_readClause_8 8 rfl rfl)
theorem dX7_readClause_200 : decode cX7_readClause 200 = .ok (.getfield 226, 3) := dk_180 0 226 (dk_at dksX7_readClause_8 9 rfl rfl)
theorem dX7_readClause_203 : decode cX7_readClause 203 = .ok (.ifCond .ne 22, 3) := dk_154 0 22 (dk_at dksX7_readClause_8 12 rfl rfl)
theorem dX7_readClause_206 : decode cX7_readClause 206 = .ok (.aload_n 0, 1) := dk_42 (dk_at dksX7_readClause_8 15 rfl rfl)
theorem dX7_readClause_207 : decode cX7_readClause 207 = .ok (.ldc2_w 415, 3) := dk_20 1 159 (dk_at dksX7_readClause_8 16 rfl rfl)
theorem dX7_readClause_210 : decode cX7_readClause 210 = .ok (.invokevirtual 287, 3) := dk_182 1 31 (dk_at dksX7_readClause_8 19 rfl rfl)
theorem dX7_readClause_213 : decode cX7_readClause 213 = .ok (.ifCond .eq 12, 3) := dk_153 0 12 (dk_at dksX7_readClause_9 0 rfl rfl)
theorem dX7_readClause_216 : decode cX7_readClause 216 = .ok (.aload_n 0, 1) := dk_42 (dk_at dksX7_readClause_9 3 rfl rfl)
theorem dX7_readClause_217 : decode cX7_readClause 217 = .ok (.invokevirtual 230, 3) := dk_182 0 230 (dk_at dksX7_readClause_9 4 rfl rfl)
theorem dX7_readClause_220 : decode cX7_readClause 220 = .ok (.aload_n 0, 1) := dk_42 (dk_at dksX7_readClause_9 7 rfl rfl)
theorem dX7_readClause_221 : decode cX7_readClause 221 = .ok (.iconst 1, 1) := dk_4 (dk_at dksX7_readClause_9 8 rfl rfl)
theorem dX7_readClause_222 : decode cX7_readClause 222 = .ok (.invokevirtual 412, 3) := dk_182 1 156 (dk_at dksX7_readClause_9 9 rfl rfl)
theorem dX7_readClause_225 : decode cX7_readClause 225 = .ok (.aload_n 0, 1) := dk_42 (dk_at dksX7_readClause_9 12 rfl rfl)
theorem dX7_readClause_226 : decode cX7_readClause 226 = .ok (.getfield 34, 3) := dk_180 0 34 (dk_at dksX7_readClause_9 13 rfl rfl)
theorem dX7_readClause_229 : decode cX7_readClause 229 = .ok (.iload_n 2, 1) := dk_28 (dk_at dksX7_readClause_9 16 rfl rfl)
theorem dX7_readClause_230 : decode cX7_readClause 230 = .ok (.bipush 6, 2) := dk_16 6 (dk_at dksX7_readClause_9 17 rfl rfl)
theorem dX7_readClause_232 : decode cX7_readClause 232 = .ok (.iadd, 1) := dk_96 (dk_at dksX7_readClause_9 19 rfl rfl)
theorem dX7_readClause_233 : decode cX7_readClause 233 = .ok (.aload_n 0, 1) := dk_42 (dk_at dksX7_readClause_9 20 rfl rfl)
theorem dX7_readClause_234 : decode cX7_readClause 234 = .ok (.getfield 265, 3) := dk_180 1 9 (dk_at dksX7_readClause_9 21 rfl rfl)
theorem dX7_readClause_237 : decode cX7_readClause 237 = .ok (.iastore, 1) := dk_79 (dk_at dksX7_readClause_10 0 rfl rfl)
theorem dX7_readClause_238 : decode cX7_readClause 238 = .ok (.return_, 1) := dk_177 (dk_at dksX7_readClause_10 1 rfl rfl)
def dkwX7_headAt_6 : List UInt8 := [182, 1, 31, 153, 0, 8, 16, 7, 167, 0, 4, 2, 172]
abbrev dktX7_headAt_6 : List UInt8 := dkwX7_headAt_6 ++ []
def dkwX7_headAt_5 : List UInt8 := [167, 0, 4, 8, 172, 42, 20, 1, 134, 182, 1, 31, 153, 0, 8, 16, 6, 167, 0, 19, 42, 20, 1, 136]
abbrev dktX7_headAt_5 : List UInt8 := dkwX7_headAt_5 ++ dktX7_headAt_6
def dkwX7_headAt_4 : List UInt8 := [154, 0, 13, 42, 20, 1, 132, 182, 1, 31, 153, 0, 19, 42, 20, 1, 130, 182, 1, 31, 153, 0, 7, 7]
abbrev dktX7_headAt_4 : List UInt8 := dkwX7_headAt_4 ++ dktX7_headAt_5
def dkwX7_headAt_3 : List UInt8 := [20, 1, 126, 182, 1, 31, 153, 0, 7, 5, 167, 0, 4, 6, 172, 42, 20, 1, 130, 182, 1, 31]
abbrev dktX7_headAt_3 : List UInt8 := dkwX7_headAt_3 ++ dktX7_headAt_4
def dkwX7_headAt_2 : List UInt8 := [153, 0, 7, 3, 167, 0, 32, 42, 20, 1, 124, 182, 1, 31, 153, 0, 7, 4, 167, 0, 18, 42]
abbrev dktX7_headAt_2 : List UInt8 := dkwX7_headAt_2 ++ dktX7_headAt_3
def dkwX7_headAt_1 : List UInt8 := [182, 1, 31, 154, 0, 13, 42, 20, 1, 128, 182, 1, 31, 153, 0, 47, 42, 20, 1, 122, 182, 1, 31]
abbrev dktX7_headAt_1 : List UInt8 := dkwX7_headAt_1 ++ dktX7_headAt_2
def dkwX7_headAt_0 : List UInt8 := [42, 20, 1, 122, 182, 1, 31, 154, 0, 33, 42, 20, 1, 124, 182, 1, 31, 154, 0, 23, 42, 20, 1, 126]
abbrev dktX7_headAt_0 : List UInt8 := dkwX7_headAt_0 ++ dktX7_headAt_1
theorem dksX7_headAt_0 : cX7_headAt.data.toList.drop 0 = dktX7_headAt_0 := by decide +kernel
theorem dksX7_headAt_1 : cX7_headAt.data.toList.drop 24 = dktX7_headAt_1 := dk_seg dksX7_headAt_0 24 rfl rfl
theorem dksX7_headAt_2 : cX7_headAt.data.toList.drop 47 = dktX7_headAt_2 := dk_seg dksX7_headAt_1 23 rfl rfl
theorem dksX7_headAt_3 : cX7_headAt.data.toList.drop 69 = dktX7_headAt_3 := dk_seg dksX7_headAt_2 22 rfl rfl
theorem dksX7_headAt_4 : cX7_headAt.data.toList.drop 91 = dktX7_headAt_4 := dk_seg dksX7_headAt_3 22 rfl rfl
theorem dksX7_headAt_5 : cX7_headAt.data.toList.drop 115 = dktX7_headAt_5 := dk_seg dksX7_headAt_4 24 rfl rfl
theorem dksX7_headAt_6 : cX7_headAt.data.toList.drop 139 = dktX7_headAt_6 := dk_seg dksX7_headAt_5 24 rfl rfl
theorem dX7_headAt_0 : decode cX7_headAt 0 = .ok (.aload_n 0, 1) := dk_42 (dk_at dksX7_headAt_0 0 rfl rfl)
theorem dX7_headAt_1 : decode cX7_headAt 1 = .ok (.ldc2_w 378, 3) := dk_20 1 122 (dk_at dksX7_headAt_0 1 rfl rfl)
theorem dX7_headAt_4 : decode cX7_headAt 4 = .ok (.invokevirtual 287, 3) := dk_182 1 31 (dk_at dksX7_headAt_0 4 rfl rfl)
theorem dX7_headAt_7 : decode cX7_headAt 7 = .ok (.ifCond .ne 33, 3) := dk_154 0 33 (dk_at dksX7_headAt_0 7 rfl rfl)
theorem dX7_headAt_10 : decode cX7_headAt 10 = .ok (.aload_n 0, 1) := dk_42 (dk_at dksX7_headAt_0 10 rfl rfl)
theorem dX7_headAt_11 : decode cX7_headAt 11 = .ok (.ldc2_w 380, 3) := dk_20 1 124 (dk_at dksX7_headAt_0 11 rfl rfl)
theorem dX7_headAt_14 : decode cX7_headAt 14 = .ok (.invokevirtual 287, 3) := dk_182 1 31 (dk_at dksX7_headAt_0 14 rfl rfl)
theorem dX7_headAt_17 : decode cX7_headAt 17 = .ok (.ifCond .ne 23, 3) := dk_154 0 23 (dk_at dksX7_headAt_0 17 rfl rfl)
theorem dX7_headAt_20 : decode cX7_headAt 20 = .ok (.aload_n 0, 1) := dk_42 (dk_at dksX7_headAt_0 20 rfl rfl)
theorem dX7_headAt_21 : decode cX7_headAt 21 = .ok (.ldc2_w 382, 3) := dk_20 1 126 (dk_at dksX7_headAt_0 21 rfl rfl)
theorem dX7_headAt_24 : decode cX7_headAt 24 = .ok (.invokevirtual 287, 3) := dk_182 1 31 (dk_at dksX7_headAt_1 0 rfl rfl)
theorem dX7_headAt_27 : decode cX7_headAt 27 = .ok (.ifCond .ne 13, 3) := dk_154 0 13 (dk_at dksX7_headAt_1 3 rfl rfl)
theorem dX7_headAt_30 : decode cX7_headAt 30 = .ok (.aload_n 0, 1) := dk_42 (dk_at dksX7_headAt_1 6 rfl rfl)
theorem dX7_headAt_31 : decode cX7_headAt 31 = .ok (.ldc2_w 384, 3) := dk_20 1 128 (dk_at dksX7_headAt_1 7 rfl rfl)
theorem dX7_headAt_34 : decode cX7_headAt 34 = .ok (.invokevirtual 287, 3) := dk_182 1 31 (dk_at dksX7_headAt_1 10 rfl rfl)
theorem dX7_headAt_37 : decode cX7_headAt 37 = .ok (.ifCond .eq 47, 3) := dk_153 0 47 (dk_at dksX7_headAt_1 13 rfl rfl)
theorem dX7_headAt_40 : decode cX7_headAt 40 = .ok (.aload_n 0, 1) := dk_42 (dk_at dksX7_headAt_1 16 rfl rfl)
theorem dX7_headAt_41 : decode cX7_headAt 41 = .ok (.ldc2_w 378, 3) := dk_20 1 122 (dk_at dksX7_headAt_1 17 rfl rfl)
theorem dX7_headAt_44 : decode cX7_headAt 44 = .ok (.invokevirtual 287, 3) := dk_182 1 31 (dk_at dksX7_headAt_1 20 rfl rfl)
theorem dX7_headAt_47 : decode cX7_headAt 47 = .ok (.ifCond .eq 7, 3) := dk_153 0 7 (dk_at dksX7_headAt_2 0 rfl rfl)
theorem dX7_headAt_50 : decode cX7_headAt 50 = .ok (.iconst 0, 1) := dk_3 (dk_at dksX7_headAt_2 3 rfl rfl)
theorem dX7_headAt_51 : decode cX7_headAt 51 = .ok (.goto 32, 3) := dk_167 0 32 (dk_at dksX7_headAt_2 4 rfl rfl)
theorem dX7_headAt_54 : decode cX7_headAt 54 = .ok (.aload_n 0, 1) := dk_42 (dk_at dksX7_headAt_2 7 rfl rfl)
theorem dX7_headAt_55 : decode cX7_headAt 55 = .ok (.ldc2_w 380, 3) := dk_20 1 124 (dk_at dksX7_headAt_2 8 rfl rfl)
theorem dX7_headAt_58 : decode cX7_headAt 58 = .ok (.invokevirtual 287, 3) := dk_182 1 31 (dk_at dksX7_headAt_2 11 rfl rfl)
theorem dX7_headAt_61 : decode cX7_headAt 61 = .ok (.ifCond .eq 7, 3) := dk_153 0 7 (dk_at dksX7_headAt_2 14 rfl rfl)
theorem dX7_headAt_64 : decode cX7_headAt 64 = .ok (.iconst 1, 1) := dk_4 (dk_at dksX7_headAt_2 17 rfl rfl)
theorem dX7_headAt_65 : decode cX7_headAt 65 = .ok (.goto 18, 3) := dk_167 0 18 (dk_at dksX7_headAt_2 18 rfl rfl)
theorem dX7_headAt_68 : decode cX7_headAt 68 = .ok (.aload_n 0, 1) := dk_42 (dk_at dksX7_headAt_2 21 rfl rfl)
theorem dX7_headAt_69 : decode cX7_headAt 69 = .ok (.ldc2_w 382, 3) := dk_20 1 126 (dk_at dksX7_headAt_3 0 rfl rfl)
theorem dX7_headAt_72 : decode cX7_headAt 72 = .ok (.invokevirtual 287, 3) := dk_182 1 31 (dk_at dksX7_headAt_3 3 rfl rfl)
theorem dX7_headAt_75 : decode cX7_headAt 75 = .ok (.ifCond .eq 7, 3) := dk_153 0 7 (dk_at dksX7_headAt_3 6 rfl rfl)
theorem dX7_headAt_78 : decode cX7_headAt 78 = .ok (.iconst 2, 1) := dk_5 (dk_at dksX7_headAt_3 9 rfl rfl)
theorem dX7_headAt_79 : decode cX7_headAt 79 = .ok (.goto 4, 3) := dk_167 0 4 (dk_at dksX7_headAt_3 10 rfl rfl)
theorem dX7_headAt_82 : decode cX7_headAt 82 = .ok (.iconst 3, 1) := dk_6 (dk_at dksX7_headAt_3 13 rfl rfl)
theorem dX7_headAt_83 : decode cX7_headAt 83 = .ok (.ireturn, 1) := dk_172 (dk_at dksX7_headAt_3 14 rfl rfl)
theorem dX7_headAt_84 : decode cX7_headAt 84 = .ok (.aload_n 0, 1) := dk_42 (dk_at dksX7_headAt_3 15 rfl rfl)
theorem dX7_headAt_85 : decode cX7_headAt 85 = .ok (.ldc2_w 386, 3) := dk_20 1 130 (dk_at dksX7_headAt_3 16 rfl rfl)
theorem dX7_headAt_88 : decode cX7_headAt 88 = .ok (.invokevirtual 287, 3) := dk_182 1 31 (dk_at dksX7_headAt_3 19 rfl rfl)
theorem dX7_headAt_91 : decode cX7_headAt 91 = .ok (.ifCond .ne 13, 3) := dk_154 0 13 (dk_at dksX7_headAt_4 0 rfl rfl)
theorem dX7_headAt_94 : decode cX7_headAt 94 = .ok (.aload_n 0, 1) := dk_42 (dk_at dksX7_headAt_4 3 rfl rfl)
theorem dX7_headAt_95 : decode cX7_headAt 95 = .ok (.ldc2_w 388, 3) := dk_20 1 132 (dk_at dksX7_headAt_4 4 rfl rfl)
theorem dX7_headAt_98 : decode cX7_headAt 98 = .ok (.invokevirtual 287, 3) := dk_182 1 31 (dk_at dksX7_headAt_4 7 rfl rfl)
theorem dX7_headAt_101 : decode cX7_headAt 101 = .ok (.ifCond .eq 19, 3) := dk_153 0 19 (dk_at dksX7_headAt_4 10 rfl rfl)
theorem dX7_headAt_104 : decode cX7_headAt 104 = .ok (.aload_n 0, 1) := dk_42 (dk_at dksX7_headAt_4 13 rfl rfl)
theorem dX7_headAt_105 : decode cX7_headAt 105 = .ok (.ldc2_w 386, 3) := dk_20 1 130 (dk_at dksX7_headAt_4 14 rfl rfl)
theorem dX7_headAt_108 : decode cX7_headAt 108 = .ok (.invokevirtual 287, 3) := dk_182 1 31 (dk_at dksX7_headAt_4 17 rfl rfl)
theorem dX7_headAt_111 : decode cX7_headAt 111 = .ok (.ifCond .eq 7, 3) := dk_153 0 7 (dk_at dksX7_headAt_4 20 rfl rfl)
theorem dX7_headAt_114 : decode cX7_headAt 114 = .ok (.iconst 4, 1) := dk_7 (dk_at dksX7_headAt_4 23 rfl rfl)
theorem dX7_headAt_115 : decode cX7_headAt 115 = .ok (.goto 4, 3) := dk_167 0 4 (dk_at dksX7_headAt_5 0 rfl rfl)
theorem dX7_headAt_118 : decode cX7_headAt 118 = .ok (.iconst 5, 1) := dk_8 (dk_at dksX7_headAt_5 3 rfl rfl)
theorem dX7_headAt_119 : decode cX7_headAt 119 = .ok (.ireturn, 1) := dk_172 (dk_at dksX7_headAt_5 4 rfl rfl)
theorem dX7_headAt_120 : decode cX7_headAt 120 = .ok (.aload_n 0, 1) := dk_42 (dk_at dksX7_headAt_5 5 rfl rfl)
theorem dX7_headAt_121 : decode cX7_headAt 121 = .ok (.ldc2_w 390, 3) := dk_20 1 134 (dk_at dksX7_headAt_5 6 rfl rfl)
theorem dX7_headAt_124 : decode cX7_headAt 124 = .ok (.invokevirtual 287, 3) := dk_182 1 31 (dk_at dksX7_headAt_5 9 rfl rfl)
theorem dX7_headAt_127 : decode cX7_headAt 127 = .ok (.ifCond .eq 8, 3) := dk_153 0 8 (dk_at dksX7_headAt_5 12 rfl rfl)
theorem dX7_headAt_130 : decode cX7_headAt 130 = .ok (.bipush 6, 2) := dk_16 6 (dk_at dksX7_headAt_5 15 rfl rfl)
theorem dX7_headAt_132 : decode cX7_headAt 132 = .ok (.goto 19, 3) := dk_167 0 19 (dk_at dksX7_headAt_5 17 rfl rfl)
theorem dX7_headAt_135 : decode cX7_headAt 135 = .ok (.aload_n 0, 1) := dk_42 (dk_at dksX7_headAt_5 20 rfl rfl)
theorem dX7_headAt_136 : decode cX7_headAt 136 = .ok (.ldc2_w 392, 3) := dk_20 1 136 (dk_at dksX7_headAt_5 21 rfl rfl)
theorem dX7_headAt_139 : decode cX7_headAt 139 = .ok (.invokevirtual 287, 3) := dk_182 1 31 (dk_at dksX7_headAt_6 0 rfl rfl)
theorem dX7_headAt_142 : decode cX7_headAt 142 = .ok (.ifCond .eq 8, 3) := dk_153 0 8 (dk_at dksX7_headAt_6 3 rfl rfl)
theorem dX7_headAt_145 : decode cX7_headAt 145 = .ok (.bipush 7, 2) := dk_16 7 (dk_at dksX7_headAt_6 6 rfl rfl)
theorem dX7_headAt_147 : decode cX7_headAt 147 = .ok (.goto 4, 3) := dk_167 0 4 (dk_at dksX7_headAt_6 8 rfl rfl)
theorem dX7_headAt_150 : decode cX7_headAt 150 = .ok (.iconst (-1), 1) := dk_2 (dk_at dksX7_headAt_6 11 rfl rfl)
theorem dX7_headAt_151 : decode cX7_headAt 151 = .ok (.ireturn, 1) := dk_172 (dk_at dksX7_headAt_6 12 rfl rfl)
def dkwX7_isWord_0 : List UInt8 := [42, 180, 0, 246, 4, 160, 0, 16, 42, 180, 0, 236, 31, 148, 154, 0, 7, 4, 167, 0, 4, 3, 172]
abbrev dktX7_isWord_0 : List UInt8 := dkwX7_isWord_0 ++ []
theorem dksX7_isWord_0 : cX7_isWord.data.toList.drop 0 = dktX7_isWord_0 := by decide +kernel
theorem dX7_isWord_0 : decode cX7_isWord 0 = .ok (.aload_n 0, 1) := dk_42 (dk_at dksX7_isWord_0 0 rfl rfl)
theorem dX7_isWord_1 : decode cX7_isWord 1 = .ok (.getfield 246, 3) := dk_180 0 246 (dk_at dksX7_isWord_0 1 rfl rfl)
theorem dX7_isWord_4 : decode cX7_isWord 4 = .ok (.iconst 1, 1) := dk_4 (dk_at dksX7_isWord_0 4 rfl rfl)
theorem dX7_isWord_5 : decode cX7_isWord 5 = .ok (.if_icmp .ne 16, 3) := dk_160 0 16 (dk_at dksX7_isWord_0 5 rfl rfl)
theorem dX7_isWord_8 : decode cX7_isWord 8 = .ok (.aload_n 0, 1) := dk_42 (dk_at dksX7_isWord_0 8 rfl rfl)
theorem dX7_isWord_9 : decode cX7_isWord 9 = .ok (.getfield 236, 3) := dk_180 0 236 (dk_at dksX7_isWord_0 9 rfl rfl)
theorem dX7_isWord_12 : decode cX7_isWord 12 = .ok (.lload_n 1, 1) := dk_31 (dk_at dksX7_isWord_0 12 rfl rfl)
theorem dX7_isWord_13 : decode cX7_isWord 13 = .ok (.lcmp, 1) := dk_148 (dk_at dksX7_isWord_0 13 rfl rfl)
theorem dX7_isWord_14 : decode cX7_isWord 14 = .ok (.ifCond .ne 7, 3) := dk_154 0 7 (dk_at dksX7_isWord_0 14 rfl rfl)
theorem dX7_isWord_17 : decode cX7_isWord 17 = .ok (.iconst 1, 1) := dk_4 (dk_at dksX7_isWord_0 17 rfl rfl)
theorem dX7_isWord_18 : decode cX7_isWord 18 = .ok (.goto 4, 3) := dk_167 0 4 (dk_at dksX7_isWord_0 18 rfl rfl)
theorem dX7_isWord_21 : decode cX7_isWord 21 = .ok (.iconst 0, 1) := dk_3 (dk_at dksX7_isWord_0 21 rfl rfl)
theorem dX7_isWord_22 : decode cX7_isWord 22 = .ok (.ireturn, 1) := dk_172 (dk_at dksX7_isWord_0 22 rfl rfl)
def dkwX7_must_1 : List UInt8 := [42, 180, 0, 226, 154, 0, 7, 42, 182, 0, 230, 177]
abbrev dktX7_must_1 : List UInt8 := dkwX7_must_1 ++ []
def dkwX7_must_0 : List UInt8 := [42, 180, 0, 226, 154, 0, 20, 27, 154, 0, 16, 42, 4, 181, 0, 226, 42, 42, 180, 0, 233, 181, 0, 30]
abbrev dktX7_must_0 : List UInt8 := dkwX7_must_0 ++ dktX7_must_1
theorem dksX7_must_0 : cX7_must.data.toList.drop 0 = dktX7_must_0 := by decide +kernel
theorem dksX7_must_1 : cX7_must.data.toList.drop 24 = dktX7_must_1 := dk_seg dksX7_must_0 24 rfl rfl
theorem dX7_must_0 : decode cX7_must 0 = .ok (.aload_n 0, 1) := dk_42 (dk_at dksX7_must_0 0 rfl rfl)
theorem dX7_must_1 : decode cX7_must 1 = .ok (.getfield 226, 3) := dk_180 0 226 (dk_at dksX7_must_0 1 rfl rfl)
theorem dX7_must_4 : decode cX7_must 4 = .ok (.ifCond .ne 20, 3) := dk_154 0 20 (dk_at dksX7_must_0 4 rfl rfl)
theorem dX7_must_7 : decode cX7_must 7 = .ok (.iload_n 1, 1) := dk_27 (dk_at dksX7_must_0 7 rfl rfl)
theorem dX7_must_8 : decode cX7_must 8 = .ok (.ifCond .ne 16, 3) := dk_154 0 16 (dk_at dksX7_must_0 8 rfl rfl)
theorem dX7_must_11 : decode cX7_must 11 = .ok (.aload_n 0, 1) := dk_42 (dk_at dksX7_must_0 11 rfl rfl)
theorem dX7_must_12 : decode cX7_must 12 = .ok (.iconst 1, 1) := dk_4 (dk_at dksX7_must_0 12 rfl rfl)
theorem dX7_must_13 : decode cX7_must 13 = .ok (.putfield 226, 3) := dk_181 0 226 (dk_at dksX7_must_0 13 rfl rfl)
theorem dX7_must_16 : decode cX7_must 16 = .ok (.aload_n 0, 1) := dk_42 (dk_at dksX7_must_0 16 rfl rfl)
theorem dX7_must_17 : decode cX7_must 17 = .ok (.aload_n 0, 1) := dk_42 (dk_at dksX7_must_0 17 rfl rfl)
theorem dX7_must_18 : decode cX7_must 18 = .ok (.getfield 233, 3) := dk_180 0 233 (dk_at dksX7_must_0 18 rfl rfl)
theorem dX7_must_21 : decode cX7_must 21 = .ok (.putfield 30, 3) := dk_181 0 30 (dk_at dksX7_must_0 21 rfl rfl)
theorem dX7_must_24 : decode cX7_must 24 = .ok (.aload_n 0, 1) := dk_42 (dk_at dksX7_must_1 0 rfl rfl)
theorem dX7_must_25 : decode cX7_must 25 = .ok (.getfield 226, 3) := dk_180 0 226 (dk_at dksX7_must_1 1 rfl rfl)
theorem dX7_must_28 : decode cX7_must 28 = .ok (.ifCond .ne 7, 3) := dk_154 0 7 (dk_at dksX7_must_1 4 rfl rfl)
theorem dX7_must_31 : decode cX7_must 31 = .ok (.aload_n 0, 1) := dk_42 (dk_at dksX7_must_1 7 rfl rfl)
theorem dX7_must_32 : decode cX7_must 32 = .ok (.invokevirtual 230, 3) := dk_182 0 230 (dk_at dksX7_must_1 8 rfl rfl)
theorem dX7_must_35 : decode cX7_must 35 = .ok (.return_, 1) := dk_177 (dk_at dksX7_must_1 11 rfl rfl)
def dkwX7_number_1 : List UInt8 := [184, 0, 121, 153, 0, 7, 4, 167, 0, 4, 3, 182, 1, 5, 21, 5, 172]
abbrev dktX7_number_1 : List UInt8 := dkwX7_number_1 ++ []
def dkwX7_number_0 : List UInt8 := [42, 180, 0, 236, 136, 54, 5, 42, 42, 180, 0, 246, 5, 160, 0, 19, 42, 180, 0, 236, 31, 33]
abbrev dktX7_number_0 : List UInt8 := dkwX7_number_0 ++ dktX7_number_1
theorem dksX7_number_0 : cX7_number.data.toList.drop 0 = dktX7_number_0 := by decide +kernel
theorem dksX7_number_1 : cX7_number.data.toList.drop 22 = dktX7_number_1 := dk_seg dksX7_number_0 22 rfl rfl
theorem dX7_number_0 : decode cX7_number 0 = .ok (.aload_n 0, 1) := dk_42 (dk_at dksX7_number_0 0 rfl rfl)
theorem dX7_number_1 : decode cX7_number 1 = .ok (.getfield 236, 3) := dk_180 0 236 (dk_at dksX7_number_0 1 rfl rfl)
theorem dX7_number_4 : decode cX7_number 4 = .ok (.l2i, 1) := dk_136 (dk_at dksX7_number_0 4 rfl rfl)
theorem dX7_number_5 : decode cX7_number 5 = .ok (.istore 5, 2) := dk_54 5 (dk_at dksX7_number_0 5 rfl rfl)
theorem dX7_number_7 : decode cX7_number 7 = .ok (.aload_n 0, 1) := dk_42 (dk_at dksX7_number_0 7 rfl rfl)
theorem dX7_number_8 : decode cX7_number 8 = .ok (.aload_n 0, 1) := dk_42 (dk_at dksX7_number_0 8 rfl rfl)
theorem dX7_number_9 : decode cX7_number 9 = .ok (.getfield 246, 3) := dk_180 0 246 (dk_at dksX7_number_0 9 rfl rfl)
theorem dX7_number_12 : decode cX7_number 12 = .ok (.iconst 2, 1) := dk_5 (dk_at dksX7_number_0 12 rfl rfl)
theorem dX7_number_13 : decode cX7_number 13 = .ok (.if_icmp .ne 19, 3) := dk_160 0 19 (dk_at dksX7_number_0 13 rfl rfl)
theorem dX7_number_16 : decode cX7_number 16 = .ok (.aload_n 0, 1) := dk_42 (dk_at dksX7_number_0 16 rfl rfl)
theorem dX7_number_17 : decode cX7_number 17 = .ok (.getfield 236, 3) := dk_180 0 236 (dk_at dksX7_number_0 17 rfl rfl)
theorem dX7_number_20 : decode cX7_number 20 = .ok (.lload_n 1, 1) := dk_31 (dk_at dksX7_number_0 20 rfl rfl)
theorem dX7_number_21 : decode cX7_number 21 = .ok (.lload_n 3, 1) := dk_33 (dk_at dksX7_number_0 21 rfl rfl)
theorem dX7_number_22 : decode cX7_number 22 = .ok (.invokestatic 121, 3) := dk_184 0 121 (dk_at dksX7_number_1 0 rfl rfl)
theorem dX7_number_25 : decode cX7_number 25 = .ok (.ifCond .eq 7, 3) := dk_153 0 7 (dk_at dksX7_number_1 3 rfl rfl)
theorem dX7_number_28 : decode cX7_number 28 = .ok (.iconst 1, 1) := dk_4 (dk_at dksX7_number_1 6 rfl rfl)
theorem dX7_number_29 : decode cX7_number 29 = .ok (.goto 4, 3) := dk_167 0 4 (dk_at dksX7_number_1 7 rfl rfl)
theorem dX7_number_32 : decode cX7_number 32 = .ok (.iconst 0, 1) := dk_3 (dk_at dksX7_number_1 10 rfl rfl)
theorem dX7_number_33 : decode cX7_number 33 = .ok (.invokevirtual 261, 3) := dk_182 1 5 (dk_at dksX7_number_1 11 rfl rfl)
theorem dX7_number_36 : decode cX7_number 36 = .ok (.iload 5, 2) := dk_21 5 (dk_at dksX7_number_1 14 rfl rfl)
theorem dX7_number_38 : decode cX7_number 38 = .ok (.ireturn, 1) := dk_172 (dk_at dksX7_number_1 16 rfl rfl)
def dkwX7_readExpression_3 : List UInt8 := [61, 167, 255, 203, 42, 4, 182, 1, 98, 177]
abbrev dktX7_readExpression_3 : List UInt8 := dkwX7_readExpression_3 ++ []
def dkwX7_readExpression_2 : List UInt8 := [42, 182, 1, 95, 167, 0, 20, 28, 6, 160, 0, 11, 42, 27, 182, 1, 115, 167, 0, 7, 42, 182, 1, 119]
abbrev dktX7_readExpression_2 : List UInt8 := dkwX7_readExpression_2 ++ dktX7_readExpression_3
def dkwX7_readExpression_1 : List UInt8 := [154, 0, 52, 28, 7, 159, 0, 47, 28, 154, 0, 10, 42, 182, 1, 112, 167, 0, 32, 28, 4, 160, 0, 10]
abbrev dktX7_readExpression_1 : List UInt8 := dkwX7_readExpression_1 ++ dktX7_readExpression_2
def dkwX7_readExpression_0 : List UInt8 := [42, 3, 181, 1, 12, 42, 3, 181, 1, 65, 27, 153, 0, 7, 3, 167, 0, 4, 4, 61, 42, 180, 0, 226]
abbrev dktX7_readExpression_0 : List UInt8 := dkwX7_readExpression_0 ++ dktX7_readExpression_1
theorem dksX7_readExpression_0 : cX7_readExpression.data.toList.drop 0 = dktX7_readExpression_0 := by decide +kernel
theorem dksX7_readExpression_1 : cX7_readExpression.data.toList.drop 24 = dktX7_readExpression_1 := dk_seg dksX7_readExpression_0 24 rfl rfl
theorem dksX7_readExpression_2 : cX7_readExpression.data.toList.drop 48 = dktX7_readExpression_2 := dk_seg dksX7_readExpression_1 24 rfl rfl
theorem dksX7_readExpression_3 : cX7_readExpression.data.toList.drop 72 = dktX7_readExpression_3 := dk_seg dksX7_readExpression_2 24 rfl rfl
theorem dX7_readExpression_0 : decode cX7_readExpression 0 = .ok (.aload_n 0, 1) := dk_42 (dk_at dksX7_readExpression_0 0 rfl rfl)
theorem dX7_readExpression_1 : decode cX7_readExpression 1 = .ok (.iconst 0, 1) := dk_3 (dk_at dksX7_readExpression_0 1 rfl rfl)
theorem dX7_readExpression_2 : decode cX7_readExpression 2 = .ok (.putfield 268, 3) := dk_181 1 12 (dk_at dksX7_readExpression_0 2 rfl rfl)
theorem dX7_readExpression_5 : decode cX7_readExpression 5 = .ok (.aload_n 0, 1) := dk_42 (dk_at dksX7_readExpression_0 5 rfl rfl)
theorem dX7_readExpression_6 : decode cX7_readExpression 6 = .ok (.iconst 0, 1) := dk_3 (dk_at dksX7_readExpression_0 6 rfl rfl)
theorem dX7_readExpression_7 : decode cX7_readExpression 7 = .ok (.putfield 321, 3) := dk_181 1 65 (dk_at dksX7_readExpression_0 7 rfl rfl)
theorem dX7_readExpression_10 : decode cX7_readExpression 10 = .ok (.iload_n 1, 1) := dk_27 (dk_at dksX7_readExpression_0 10 rfl rfl)
theorem dX7_readExpression_11 : decode cX7_readExpression 11 = .ok (.ifCond .eq 7, 3) := dk_153 0 7 (dk_at dksX7_readExpression_0 11 rfl rfl)
theorem dX7_readExpression_14 : decode cX7_readExpression 14 = .ok (.iconst 0, 1) := dk_3 (dk_at dksX7_readExpression_0 14 rfl rfl)
theorem dX7_readExpression_15 : decode cX7_readExpression 15 = .ok (.goto 4, 3) := dk_167 0 4 (dk_at dksX7_readExpression_0 15 rfl rfl)
theorem dX7_readExpression_18 : decode cX7_readExpression 18 = .ok (.iconst 1, 1) := dk_4 (dk_at dksX7_readExpression_0 18 rfl rfl)
theorem dX7_readExpression_19 : decode cX7_readExpression 19 = .ok (.istore_n 2, 1) := dk_61 (dk_at dksX7_readExpression_0 19 rfl rfl)
theorem dX7_readExpression_20 : decode cX7_readExpression 20 = .ok (.aload_n 0, 1) := dk_42 (dk_at dksX7_readExpression_0 20 rfl rfl)
theorem dX7_readExpression_21 : decode cX7_readExpression 21 = .ok (.getfield 226, 3) := dk_180 0 226 (dk_at dksX7_readExpression_0 21 rfl rfl)
theorem dX7_readExpression_24 : decode cX7_readExpression 24 = .ok (.ifCond .ne 52, 3) := dk_154 0 52 (dk_at dksX7_readExpression_1 0 rfl rfl)
theorem dX7_readExpression_27 : decode cX7_readExpression 27 = .ok (.iload_n 2, 1) := dk_28 (dk_at dksX7_readExpression_1 3 rfl rfl)
theorem dX7_readExpression_28 : decode cX7_readExpression 28 = .ok (.iconst 4, 1) := dk_7 (dk_at dksX7_readExpression_1 4 rfl rfl)
theorem dX7_readExpression_29 : decode cX7_readExpression 29 = .ok (.if_icmp .eq 47, 3) := dk_159 0 47 (dk_at dksX7_readExpression_1 5 rfl rfl)
theorem dX7_readExpression_32 : decode cX7_readExpression 32 = .ok (.iload_n 2, 1) := dk_28 (dk_at dksX7_readExpression_1 8 rfl rfl)
theorem dX7_readExpression_33 : decode cX7_readExpression 33 = .ok (.ifCond .ne 10, 3) := dk_154 0 10 (dk_at dksX7_readExpression_1 9 rfl rfl)
theorem dX7_readExpression_36 : decode cX7_readExpression 36 = .ok (.aload_n 0, 1) := dk_42 (dk_at dksX7_readExpression_1 12 rfl rfl)
theorem dX7_readExpression_37 : decode cX7_readExpression 37 = .ok (.invokevirtual 368, 3) := dk_182 1 112 (dk_at dksX7_readExpression_1 13 rfl rfl)
theorem dX7_readExpression_40 : decode cX7_readExpression 40 = .ok (.goto 32, 3) := dk_167 0 32 (dk_at dksX7_readExpression_1 16 rfl rfl)
theorem dX7_readExpression_43 : decode cX7_readExpression 43 = .ok (.iload_n 2, 1) := dk_28 (dk_at dksX7_readExpression_1 19 rfl rfl)
theorem dX7_readExpression_44 : decode cX7_readExpression 44 = .ok (.iconst 1, 1) := dk_4 (dk_at dksX7_readExpression_1 20 rfl rfl)
theorem dX7_readExpression_45 : decode cX7_readExpression 45 = .ok (.if_icmp .ne 10, 3) := dk_160 0 10 (dk_at dksX7_readExpression_1 21 rfl rfl)
theorem dX7_readExpression_48 : decode cX7_readExpression 48 = .ok (.aload_n 0, 1) := dk_42 (dk_at dksX7_readExpression_2 0 rfl rfl)
theorem dX7_readExpression_49 : decode cX7_readExpression 49 = .ok (.invokevirtual 351, 3) := dk_182 1 95 (dk_at dksX7_readExpression_2 1 rfl rfl)
theorem dX7_readExpression_52 : decode cX7_readExpression 52 = .ok (.goto 20, 3) := dk_167 0 20 (dk_at dksX7_readExpression_2 4 rfl rfl)
theorem dX7_readExpression_55 : decode cX7_readExpression 55 = .ok (.iload_n 2, 1) := dk_28 (dk_at dksX7_readExpression_2 7 rfl rfl)
theorem dX7_readExpression_56 : decode cX7_readExpression 56 = .ok (.iconst 3, 1) := dk_6 (dk_at dksX7_readExpression_2 8 rfl rfl)
theorem dX7_readExpression_57 : decode cX7_readExpression 57 = .ok (.if_icmp .ne 11, 3) := dk_160 0 11 (dk_at dksX7_readExpression_2 9 rfl rfl)
theorem dX7_readExpression_60 : decode cX7_readExpression 60 = .ok (.aload_n 0, 1) := dk_42 (dk_at dksX7_readExpression_2 12 rfl rfl)
theorem dX7_readExpression_61 : decode cX7_readExpression 61 = .ok (.iload_n 1, 1) := dk_27 (dk_at dksX7_readExpression_2 13 rfl rfl)
theorem dX7_readExpression_62 : decode cX7_readExpression 62 = .ok (.invokevirtual 371, 3) := dk_182 1 115 (dk_at dksX7_readExpression_2 14 rfl rfl)
theorem dX7_readExpression_65 : decode cX7_readExpression 65 = .ok (.goto 7, 3) := dk_167 0 7 (dk_at dksX7_readExpression_2 17 rfl rfl)
theorem dX7_readExpression_68 : decode cX7_readExpression 68 = .ok (.aload_n 0, 1) := dk_42 (dk_at dksX7_readExpression_2 20 rfl rfl)
theorem dX7_readExpression_69 : decode cX7_readExpression 69 = .ok (.invokevirtual 375, 3) := dk_182 1 119 (dk_at dksX7_readExpression_2 21 rfl rfl)
theorem dX7_readExpression_72 : decode cX7_readExpression 72 = .ok (.istore_n 2, 1) := dk_61 (dk_at dksX7_readExpression_3 0 rfl rfl)
theorem dX7_readExpression_73 : decode cX7_readExpression 73 = .ok (.goto (-53), 3) := dk_167 255 203 (dk_at dksX7_readExpression_3 1 rfl rfl)
theorem dX7_readExpression_76 : decode cX7_readExpression 76 = .ok (.aload_n 0, 1) := dk_42 (dk_at dksX7_readExpression_3 4 rfl rfl)
theorem dX7_readExpression_77 : decode cX7_readExpression 77 = .ok (.iconst 1, 1) := dk_4 (dk_at dksX7_readExpression_3 5 rfl rfl)
theorem dX7_readExpression_78 : decode cX7_readExpression 78 = .ok (.invokevirtual 354, 3) := dk_182 1 98 (dk_at dksX7_readExpression_3 6 rfl rfl)
theorem dX7_readExpression_81 : decode cX7_readExpression 81 = .ok (.return_, 1) := dk_177 (dk_at dksX7_readExpression_3 9 rfl rfl)
def dkwX7_readPlain_2 : List UInt8 := [159, 0, 12, 42, 4, 27, 3, 182, 1, 86, 5, 172, 42, 182, 1, 95, 172]
abbrev dktX7_readPlain_2 : List UInt8 := dkwX7_readPlain_2 ++ []
def dkwX7_readPlain_1 : List UInt8 := [16, 40, 182, 1, 74, 153, 0, 11, 42, 16, 30, 182, 1, 77, 3, 172, 42, 182, 1, 92, 60, 27, 2]
abbrev dktX7_readPlain_1 : List UInt8 := dkwX7_readPlain_1 ++ dktX7_readPlain_2
def dkwX7_readPlain_0 : List UInt8 := [42, 20, 1, 90, 182, 1, 31, 153, 0, 16, 42, 16, 27, 3, 182, 1, 68, 42, 182, 0, 230, 3, 172, 42]
abbrev dktX7_readPlain_0 : List UInt8 := dkwX7_readPlain_0 ++ dktX7_readPlain_1
theorem dksX7_readPlain_0 : cX7_readPlain.data.toList.drop 0 = dktX7_readPlain_0 := by decide +kernel
theorem dksX7_readPlain_1 : cX7_readPlain.data.toList.drop 24 = dktX7_readPlain_1 := dk_seg dksX7_readPlain_0 24 rfl rfl
theorem dksX7_readPlain_2 : cX7_readPlain.data.toList.drop 47 = dktX7_readPlain_2 := dk_seg dksX7_readPlain_1 23 rfl rfl
theorem dX7_readPlain_0 : decode cX7_readPlain 0 = .ok (.aload_n 0, 1) := dk_42 (dk_at dksX7_readPlain_0 0 rfl rfl)
theorem dX7_readPlain_1 : decode cX7_readPlain 1 = .ok (.ldc2_w 346, 3) := dk_20 1 90 (dk_at dksX7_readPlain_0 1 rfl rfl)
theorem dX7_readPlain_4 : decode cX7_readPlain 4 = .ok (.invokevirtual 287, 3) := dk_182 1 31 (dk_at dksX7_readPlain_0 4 rfl rfl)
theorem dX7_readPlain_7 : decode cX7_readPlain 7 = .ok (.ifCond .eq 16, 3) := dk_153 0 16 (dk_at dksX7_readPlain_0 7 rfl rfl)
theorem dX7_readPlain_10 : decode cX7_readPlain 10 = .ok (.aload_n 0, 1) := dk_42 (dk_at dksX7_readPlain_0 10 rfl rfl)
theorem dX7_readPlain_11 : decode cX7_readPlain 11 = .ok (.bipush 27, 2) := dk_16 27 (dk_at dksX7_readPlain_0 11 rfl rfl)
theorem dX7_readPlain_13 : decode cX7_readPlain 13 = .ok (.iconst 0, 1) := dk_3 (dk_at dksX7_readPlain_0 13 rfl rfl)
theorem dX7_readPlain_14 : decode cX7_readPlain 14 = .ok (.invokevirtual 324, 3) := dk_182 1 68 (dk_at dksX7_readPlain_0 14 rfl rfl)
theorem dX7_readPlain_17 : decode cX7_readPlain 17 = .ok (.aload_n 0, 1) := dk_42 (dk_at dksX7_readPlain_0 17 rfl rfl)
theorem dX7_readPlain_18 : decode cX7_readPlain 18 = .ok (.invokevirtual 230, 3) := dk_182 0 230 (dk_at dksX7_readPlain_0 18 rfl rfl)
theorem dX7_readPlain_21 : decode cX7_readPlain 21 = .ok (.iconst 0, 1) := dk_3 (dk_at dksX7_readPlain_0 21 rfl rfl)
theorem dX7_readPlain_22 : decode cX7_readPlain 22 = .ok (.ireturn, 1) := dk_172 (dk_at dksX7_readPlain_0 22 rfl rfl)
theorem dX7_readPlain_23 : decode cX7_readPlain 23 = .ok (.aload_n 0, 1) := dk_42 (dk_at dksX7_readPlain_0 23 rfl rfl)
theorem dX7_readPlain_24 : decode cX7_readPlain 24 = .ok (.bipush 40, 2) := dk_16 40 (dk_at dksX7_readPlain_1 0 rfl rfl)
theorem dX7_readPlain_26 : decode cX7_readPlain 26 = .ok (.invokevirtual 330, 3) := dk_182 1 74 (dk_at dksX7_readPlain_1 2 rfl rfl)
theorem dX7_readPlain_29 : decode cX7_readPlain 29 = .ok (.ifCond .eq 11, 3) := dk_153 0 11 (dk_at dksX7_readPlain_1 5 rfl rfl)
theorem dX7_readPlain_32 : decode cX7_readPlain 32 = .ok (.aload_n 0, 1) := dk_42 (dk_at dksX7_readPlain_1 8 rfl rfl)
theorem dX7_readPlain_33 : decode cX7_readPlain 33 = .ok (.bipush 30, 2) := dk_16 30 (dk_at dksX7_readPlain_1 9 rfl rfl)
theorem dX7_readPlain_35 : decode cX7_readPlain 35 = .ok (.invokevirtual 333, 3) := dk_182 1 77 (dk_at dksX7_readPlain_1 11 rfl rfl)
theorem dX7_readPlain_38 : decode cX7_readPlain 38 = .ok (.iconst 0, 1) := dk_3 (dk_at dksX7_readPlain_1 14 rfl rfl)
theorem dX7_readPlain_39 : decode cX7_readPlain 39 = .ok (.ireturn, 1) := dk_172 (dk_at dksX7_readPlain_1 15 rfl rfl)
theorem dX7_readPlain_40 : decode cX7_readPlain 40 = .ok (.aload_n 0, 1) := dk_42 (dk_at dksX7_readPlain_1 16 rfl rfl)
theorem dX7_readPlain_41 : decode cX7_readPlain 41 = .ok (.invokevirtual 348, 3) := dk_182 1 92 (dk_at dksX7_readPlain_1 17 rfl rfl)
theorem dX7_readPlain_44 : decode cX7_readPlain 44 = .ok (.istore_n 1, 1) := dk_60 (dk_at dksX7_readPlain_1 20 rfl rfl)
theorem dX7_readPlain_45 : decode cX7_readPlain 45 = .ok (.iload_n 1, 1) := dk_27 (dk_at dksX7_readPlain_1 21 rfl rfl)
theorem dX7_readPlain_46 : decode cX7_readPlain 46 = .ok (.iconst (-1), 1) := dk_2 (dk_at dksX7_readPlain_1 22 rfl rfl)
theorem dX7_readPlain_47 : decode cX7_readPlain 47 = .ok (.if_icmp .eq 12, 3) := dk_159 0 12 (dk_at dksX7_readPlain_2 0 rfl rfl)
theorem dX7_readPlain_50 : decode cX7_readPlain 50 = .ok (.aload_n 0, 1) := dk_42 (dk_at dksX7_readPlain_2 3 rfl rfl)
theorem dX7_readPlain_51 : decode cX7_readPlain 51 = .ok (.iconst 1, 1) := dk_4 (dk_at dksX7_readPlain_2 4 rfl rfl)
theorem dX7_readPlain_52 : decode cX7_readPlain 52 = .ok (.iload_n 1, 1) := dk_27 (dk_at dksX7_readPlain_2 5 rfl rfl)
theorem dX7_readPlain_53 : decode cX7_readPlain 53 = .ok (.iconst 0, 1) := dk_3 (dk_at dksX7_readPlain_2 6 rfl rfl)
theorem dX7_readPlain_54 : decode cX7_readPlain 54 = .ok (.invokevirtual 342, 3) := dk_182 1 86 (dk_at dksX7_readPlain_2 7 rfl rfl)
theorem dX7_readPlain_57 : decode cX7_readPlain 57 = .ok (.iconst 2, 1) := dk_5 (dk_at dksX7_readPlain_2 10 rfl rfl)
theorem dX7_readPlain_58 : decode cX7_readPlain 58 = .ok (.ireturn, 1) := dk_172 (dk_at dksX7_readPlain_2 11 rfl rfl)
theorem dX7_readPlain_59 : decode cX7_readPlain 59 = .ok (.aload_n 0, 1) := dk_42 (dk_at dksX7_readPlain_2 12 rfl rfl)
theorem dX7_readPlain_60 : decode cX7_readPlain 60 = .ok (.invokevirtual 351, 3) := dk_182 1 95 (dk_at dksX7_readPlain_2 13 rfl rfl)
theorem dX7_readPlain_63 : decode cX7_readPlain 63 = .ok (.ireturn, 1) := dk_172 (dk_at dksX7_readPlain_2 16 rfl rfl)
def dkwX7_push_1 : List UInt8 := [180, 1, 12, 4, 96, 181, 1, 12, 177]
abbrev dktX7_push_1 : List UInt8 := dkwX7_push_1 ++ []
def dkwX7_push_0 : List UInt8 := [42, 180, 0, 43, 42, 180, 1, 12, 27, 79, 42, 180, 0, 46, 42, 180, 1, 12, 28, 79, 42, 89]
abbrev dktX7_push_0 : List UInt8 := dkwX7_push_0 ++ dktX7_push_1
theorem dksX7_push_0 : cX7_push.data.toList.drop 0 = dktX7_push_0 := by decide +kernel
theorem dksX7_push_1 : cX7_push.data.toList.drop 22 = dktX7_push_1 := dk_seg dksX7_push_0 22 rfl rfl
theorem dX7_push_0 : decode cX7_push 0 = .ok (.aload_n 0, 1) := dk_42 (dk_at dksX7_push_0 0 rfl rfl)
theorem dX7_push_1 : decode cX7_push 1 = .ok (.getfield 43, 3) := dk_180 0 43 (dk_at dksX7_push_0 1 rfl rfl)
theorem dX7_push_4 : decode cX7_push 4 = .ok (.aload_n 0, 1) := dk_42 (dk_at dksX7_push_0 4 rfl rfl)
theorem dX7_push_5 : decode cX7_push 5 = .ok (.getfield 268, 3) := dk_180 1 12 (dk_at dksX7_push_0 5 rfl rfl)
theorem dX7_push_8 : decode cX7_push 8 = .ok (.iload_n 1, 1) := dk_27 (dk_at dksX7_push_0 8 rfl rfl)
theorem dX7_push_9 : decode cX7_push 9 = .ok (.iastore, 1) := dk_79 (dk_at dksX7_push_0 9 rfl rfl)
theorem dX7_push_10 : decode cX7_push 10 = .ok (.aload_n 0, 1) := dk_42 (dk_at dksX7_push_0 10 rfl rfl)
theorem dX7_push_11 : decode cX7_push 11 = .ok (.getfield 46, 3) := dk_180 0 46 (dk_at dksX7_push_0 11 rfl rfl)
theorem dX7_push_14 : decode cX7_push 14 = .ok (.aload_n 0, 1) := dk_42 (dk_at dksX7_push_0 14 rfl rfl)
theorem dX7_push_15 : decode cX7_push 15 = .ok (.getfield 268, 3) := dk_180 1 12 (dk_at dksX7_push_0 15 rfl rfl)
theorem dX7_push_18 : decode cX7_push 18 = .ok (.iload_n 2, 1) := dk_28 (dk_at dksX7_push_0 18 rfl rfl)
theorem dX7_push_19 : decode cX7_push 19 = .ok (.iastore, 1) := dk_79 (dk_at dksX7_push_0 19 rfl rfl)
theorem dX7_push_20 : decode cX7_push 20 = .ok (.aload_n 0, 1) := dk_42 (dk_at dksX7_push_0 20 rfl rfl)
theorem dX7_push_21 : decode cX7_push 21 = .ok (.dup, 1) := dk_89 (dk_at dksX7_push_0 21 rfl rfl)
theorem dX7_push_22 : decode cX7_push 22 = .ok (.getfield 268, 3) := dk_180 1 12 (dk_at dksX7_push_1 0 rfl rfl)
theorem dX7_push_25 : decode cX7_push 25 = .ok (.iconst 1, 1) := dk_4 (dk_at dksX7_push_1 3 rfl rfl)
theorem dX7_push_26 : decode cX7_push 26 = .ok (.iadd, 1) := dk_96 (dk_at dksX7_push_1 4 rfl rfl)
theorem dX7_push_27 : decode cX7_push 27 = .ok (.putfield 268, 3) := dk_181 1 12 (dk_at dksX7_push_1 5 rfl rfl)
theorem dX7_push_30 : decode cX7_push 30 = .ok (.return_, 1) := dk_177 (dk_at dksX7_push_1 8 rfl rfl)
def dkwX7_isSign_0 : List UInt8 := [42, 180, 0, 246, 6, 160, 0, 17, 42, 180, 0, 236, 27, 133, 148, 154, 0, 7, 4, 167, 0, 4, 3, 172]
abbrev dktX7_isSign_0 : List UInt8 := dkwX7_isSign_0 ++ []
theorem dksX7_isSign_0 : cX7_isSign.data.toList.drop 0 = dktX7_isSign_0 := by decide +kernel
theorem dX7_isSign_0 : decode cX7_isSign 0 = .ok (.aload_n 0, 1) := dk_42 (dk_at dksX7_isSign_0 0 rfl rfl)
theorem dX7_isSign_1 : decode cX7_isSign 1 = .ok (.getfield 246, 3) := dk_180 0 246 (dk_at dksX7_isSign_0 1 rfl rfl)
theorem dX7_isSign_4 : decode cX7_isSign 4 = .ok (.iconst 3, 1) := dk_6 (dk_at dksX7_isSign_0 4 rfl rfl)
theorem dX7_isSign_5 : decode cX7_isSign 5 = .ok (.if_icmp .ne 17, 3) := dk_160 0 17 (dk_at dksX7_isSign_0 5 rfl rfl)
theorem dX7_isSign_8 : decode cX7_isSign 8 = .ok (.aload_n 0, 1) := dk_42 (dk_at dksX7_isSign_0 8 rfl rfl)
theorem dX7_isSign_9 : decode cX7_isSign 9 = .ok (.getfield 236, 3) := dk_180 0 236 (dk_at dksX7_isSign_0 9 rfl rfl)
theorem dX7_isSign_12 : decode cX7_isSign 12 = .ok (.iload_n 1, 1) := dk_27 (dk_at dksX7_isSign_0 12 rfl rfl)
theorem dX7_isSign_13 : decode cX7_isSign 13 = .ok (.i2l, 1) := dk_133 (dk_at dksX7_isSign_0 13 rfl rfl)
theorem dX7_isSign_14 : decode cX7_isSign 14 = .ok (.lcmp, 1) := dk_148 (dk_at dksX7_isSign_0 14 rfl rfl)
theorem dX7_isSign_15 : decode cX7_isSign 15 = .ok (.ifCond .ne 7, 3) := dk_154 0 7 (dk_at dksX7_isSign_0 15 rfl rfl)
theorem dX7_isSign_18 : decode cX7_isSign 18 = .ok (.iconst 1, 1) := dk_4 (dk_at dksX7_isSign_0 18 rfl rfl)
theorem dX7_isSign_19 : decode cX7_isSign 19 = .ok (.goto 4, 3) := dk_167 0 4 (dk_at dksX7_isSign_0 19 rfl rfl)
theorem dX7_isSign_22 : decode cX7_isSign 22 = .ok (.iconst 0, 1) := dk_3 (dk_at dksX7_isSign_0 22 rfl rfl)
theorem dX7_isSign_23 : decode cX7_isSign 23 = .ok (.ireturn, 1) := dk_172 (dk_at dksX7_isSign_0 23 rfl rfl)
def dkwX7_open_1 : List UInt8 := [154, 0, 19, 42, 89, 180, 1, 65, 4, 96, 181, 1, 65, 42, 27, 3, 182, 1, 68, 177]
abbrev dktX7_open_1 : List UInt8 := dkwX7_open_1 ++ []
def dkwX7_open_0 : List UInt8 := [42, 42, 180, 1, 65, 16, 8, 162, 0, 7, 4, 167, 0, 4, 3, 182, 1, 5, 42, 180, 0, 226]
abbrev dktX7_open_0 : List UInt8 := dkwX7_open_0 ++ dktX7_open_1
theorem dksX7_open_0 : cX7_open.data.toList.drop 0 = dktX7_open_0 := by decide +kernel
theorem dksX7_open_1 : cX7_open.data.toList.drop 22 = dktX7_open_1 := dk_seg dksX7_open_0 22 rfl rfl
theorem dX7_open_0 : decode cX7_open 0 = .ok (.aload_n 0, 1) := dk_42 (dk_at dksX7_open_0 0 rfl rfl)
theorem dX7_open_1 : decode cX7_open 1 = .ok (.aload_n 0, 1) := dk_42 (dk_at dksX7_open_0 1 rfl rfl)
theorem dX7_open_2 : decode cX7_open 2 = .ok (.getfield 321, 3) := dk_180 1 65 (dk_at dksX7_open_0 2 rfl rfl)
theorem dX7_open_5 : decode cX7_open 5 = .ok (.bipush 8, 2) := dk_16 8 (dk_at dksX7_open_0 5 rfl rfl)
theorem dX7_open_7 : decode cX7_open 7 = .ok (.if_icmp .ge 7, 3) := dk_162 0 7 (dk_at dksX7_open_0 7 rfl rfl)
theorem dX7_open_10 : decode cX7_open 10 = .ok (.iconst 1, 1) := dk_4 (dk_at dksX7_open_0 10 rfl rfl)
theorem dX7_open_11 : decode cX7_open 11 = .ok (.goto 4, 3) := dk_167 0 4 (dk_at dksX7_open_0 11 rfl rfl)
theorem dX7_open_14 : decode cX7_open 14 = .ok (.iconst 0, 1) := dk_3 (dk_at dksX7_open_0 14 rfl rfl)
theorem dX7_open_15 : decode cX7_open 15 = .ok (.invokevirtual 261, 3) := dk_182 1 5 (dk_at dksX7_open_0 15 rfl rfl)
theorem dX7_open_18 : decode cX7_open 18 = .ok (.aload_n 0, 1) := dk_42 (dk_at dksX7_open_0 18 rfl rfl)
theorem dX7_open_19 : decode cX7_open 19 = .ok (.getfield 226, 3) := dk_180 0 226 (dk_at dksX7_open_0 19 rfl rfl)
theorem dX7_open_22 : decode cX7_open 22 = .ok (.ifCond .ne 19, 3) := dk_154 0 19 (dk_at dksX7_open_1 0 rfl rfl)
theorem dX7_open_25 : decode cX7_open 25 = .ok (.aload_n 0, 1) := dk_42 (dk_at dksX7_open_1 3 rfl rfl)
theorem dX7_open_26 : decode cX7_open 26 = .ok (.dup, 1) := dk_89 (dk_at dksX7_open_1 4 rfl rfl)
theorem dX7_open_27 : decode cX7_open 27 = .ok (.getfield 321, 3) := dk_180 1 65 (dk_at dksX7_open_1 5 rfl rfl)
theorem dX7_open_30 : decode cX7_open 30 = .ok (.iconst 1, 1) := dk_4 (dk_at dksX7_open_1 8 rfl rfl)
theorem dX7_open_31 : decode cX7_open 31 = .ok (.iadd, 1) := dk_96 (dk_at dksX7_open_1 9 rfl rfl)
theorem dX7_open_32 : decode cX7_open 32 = .ok (.putfield 321, 3) := dk_181 1 65 (dk_at dksX7_open_1 10 rfl rfl)
theorem dX7_open_35 : decode cX7_open 35 = .ok (.aload_n 0, 1) := dk_42 (dk_at dksX7_open_1 13 rfl rfl)
theorem dX7_open_36 : decode cX7_open 36 = .ok (.iload_n 1, 1) := dk_27 (dk_at dksX7_open_1 14 rfl rfl)
theorem dX7_open_37 : decode cX7_open 37 = .ok (.iconst 0, 1) := dk_3 (dk_at dksX7_open_1 15 rfl rfl)
theorem dX7_open_38 : decode cX7_open 38 = .ok (.invokevirtual 324, 3) := dk_182 1 68 (dk_at dksX7_open_1 16 rfl rfl)
theorem dX7_open_41 : decode cX7_open 41 = .ok (.return_, 1) := dk_177 (dk_at dksX7_open_1 19 rfl rfl)
def dkwX7_plainAt_4 : List UInt8 := [172]
abbrev dktX7_plainAt_4 : List UInt8 := dkwX7_plainAt_4 ++ []
def dkwX7_plainAt_3 : List UInt8 := [153, 0, 8, 16, 15, 167, 0, 19, 42, 20, 1, 63, 182, 1, 31, 153, 0, 8, 16, 16, 167, 0, 4, 2]
abbrev dktX7_plainAt_3 : List UInt8 := dkwX7_plainAt_3 ++ dktX7_plainAt_4
def dkwX7_plainAt_2 : List UInt8 := [20, 1, 57, 182, 1, 31, 153, 0, 8, 16, 13, 167, 0, 5, 16, 14, 172, 42, 20, 1, 61, 182, 1, 31]
abbrev dktX7_plainAt_2 : List UInt8 := dkwX7_plainAt_2 ++ dktX7_plainAt_3
def dkwX7_plainAt_1 : List UInt8 := [182, 1, 31, 153, 0, 36, 42, 20, 1, 55, 182, 1, 31, 153, 0, 8, 16, 12, 167, 0, 20, 42]
abbrev dktX7_plainAt_1 : List UInt8 := dkwX7_plainAt_1 ++ dktX7_plainAt_2
def dkwX7_plainAt_0 : List UInt8 := [42, 20, 1, 55, 182, 1, 31, 154, 0, 23, 42, 20, 1, 57, 182, 1, 31, 154, 0, 13, 42, 20, 1, 59]
abbrev dktX7_plainAt_0 : List UInt8 := dkwX7_plainAt_0 ++ dktX7_plainAt_1
theorem dksX7_plainAt_0 : cX7_plainAt.data.toList.drop 0 = dktX7_plainAt_0 := by decide +kernel
theorem dksX7_plainAt_1 : cX7_plainAt.data.toList.drop 24 = dktX7_plainAt_1 := dk_seg dksX7_plainAt_0 24 rfl rfl
theorem dksX7_plainAt_2 : cX7_plainAt.data.toList.drop 46 = dktX7_plainAt_2 := dk_seg dksX7_plainAt_1 22 rfl rfl
theorem dksX7_plainAt_3 : cX7_plainAt.data.toList.drop 70 = dktX7_plainAt_3 := dk_seg dksX7_plainAt_2 24 rfl rfl
theorem dksX7_plainAt_4 : cX7_plainAt.data.toList.drop 94 = dktX7_plainAt_4 := dk_seg dksX7_plainAt_3 24 rfl rfl
theorem dX7_plainAt_0 : decode cX7_plainAt 0 = .ok (.aload_n 0, 1) := dk_42 (dk_at dksX7_plainAt_0 0 rfl rfl)
theorem dX7_plainAt_1 : decode cX7_plainAt 1 = .ok (.ldc2_w 311, 3) := dk_20 1 55 (dk_at dksX7_plainAt_0 1 rfl rfl)
theorem dX7_plainAt_4 : decode cX7_plainAt 4 = .ok (.invokevirtual 287, 3) := dk_182 1 31 (dk_at dksX7_plainAt_0 4 rfl rfl)
theorem dX7_plainAt_7 : decode cX7_plainAt 7 = .ok (.ifCond .ne 23, 3) := dk_154 0 23 (dk_at dksX7_plainAt_0 7 rfl rfl)
theorem dX7_plainAt_10 : decode cX7_plainAt 10 = .ok (.aload_n 0, 1) := dk_42 (dk_at dksX7_plainAt_0 10 rfl rfl)
theorem dX7_plainAt_11 : decode cX7_plainAt 11 = .ok (.ldc2_w 313, 3) := dk_20 1 57 (dk_at dksX7_plainAt_0 11 rfl rfl)
theorem dX7_plainAt_14 : decode cX7_plainAt 14 = .ok (.invokevirtual 287, 3) := dk_182 1 31 (dk_at dksX7_plainAt_0 14 rfl rfl)
theorem dX7_plainAt_17 : decode cX7_plainAt 17 = .ok (.ifCond .ne 13, 3) := dk_154 0 13 (dk_at dksX7_plainAt_0 17 rfl rfl)
theorem dX7_plainAt_20 : decode cX7_plainAt 20 = .ok (.aload_n 0, 1) := dk_42 (dk_at dksX7_plainAt_0 20 rfl rfl)
theorem dX7_plainAt_21 : decode cX7_plainAt 21 = .ok (.ldc2_w 315, 3) := dk_20 1 59 (dk_at dksX7_plainAt_0 21 rfl rfl)
theorem dX7_plainAt_24 : decode cX7_plainAt 24 = .ok (.invokevirtual 287, 3) := dk_182 1 31 (dk_at dksX7_plainAt_1 0 rfl rfl)
theorem dX7_plainAt_27 : decode cX7_plainAt 27 = .ok (.ifCond .eq 36, 3) := dk_153 0 36 (dk_at dksX7_plainAt_1 3 rfl rfl)
theorem dX7_plainAt_30 : decode cX7_plainAt 30 = .ok (.aload_n 0, 1) := dk_42 (dk_at dksX7_plainAt_1 6 rfl rfl)
theorem dX7_plainAt_31 : decode cX7_plainAt 31 = .ok (.ldc2_w 311, 3) := dk_20 1 55 (dk_at dksX7_plainAt_1 7 rfl rfl)
theorem dX7_plainAt_34 : decode cX7_plainAt 34 = .ok (.invokevirtual 287, 3) := dk_182 1 31 (dk_at dksX7_plainAt_1 10 rfl rfl)
theorem dX7_plainAt_37 : decode cX7_plainAt 37 = .ok (.ifCond .eq 8, 3) := dk_153 0 8 (dk_at dksX7_plainAt_1 13 rfl rfl)
theorem dX7_plainAt_40 : decode cX7_plainAt 40 = .ok (.bipush 12, 2) := dk_16 12 (dk_at dksX7_plainAt_1 16 rfl rfl)
theorem dX7_plainAt_42 : decode cX7_plainAt 42 = .ok (.goto 20, 3) := dk_167 0 20 (dk_at dksX7_plainAt_1 18 rfl rfl)
theorem dX7_plainAt_45 : decode cX7_plainAt 45 = .ok (.aload_n 0, 1) := dk_42 (dk_at dksX7_plainAt_1 21 rfl rfl)
theorem dX7_plainAt_46 : decode cX7_plainAt 46 = .ok (.ldc2_w 313, 3) := dk_20 1 57 (dk_at dksX7_plainAt_2 0 rfl rfl)
theorem dX7_plainAt_49 : decode cX7_plainAt 49 = .ok (.invokevirtual 287, 3) := dk_182 1 31 (dk_at dksX7_plainAt_2 3 rfl rfl)
theorem dX7_plainAt_52 : decode cX7_plainAt 52 = .ok (.ifCond .eq 8, 3) := dk_153 0 8 (dk_at dksX7_plainAt_2 6 rfl rfl)
theorem dX7_plainAt_55 : decode cX7_plainAt 55 = .ok (.bipush 13, 2) := dk_16 13 (dk_at dksX7_plainAt_2 9 rfl rfl)
theorem dX7_plainAt_57 : decode cX7_plainAt 57 = .ok (.goto 5, 3) := dk_167 0 5 (dk_at dksX7_plainAt_2 11 rfl rfl)
theorem dX7_plainAt_60 : decode cX7_plainAt 60 = .ok (.bipush 14, 2) := dk_16 14 (dk_at dksX7_plainAt_2 14 rfl rfl)
theorem dX7_plainAt_62 : decode cX7_plainAt 62 = .ok (.ireturn, 1) := dk_172 (dk_at dksX7_plainAt_2 16 rfl rfl)
theorem dX7_plainAt_63 : decode cX7_plainAt 63 = .ok (.aload_n 0, 1) := dk_42 (dk_at dksX7_plainAt_2 17 rfl rfl)
theorem dX7_plainAt_64 : decode cX7_plainAt 64 = .ok (.ldc2_w 317, 3) := dk_20 1 61 (dk_at dksX7_plainAt_2 18 rfl rfl)
theorem dX7_plainAt_67 : decode cX7_plainAt 67 = .ok (.invokevirtual 287, 3) := dk_182 1 31 (dk_at dksX7_plainAt_2 21 rfl rfl)
theorem dX7_plainAt_70 : decode cX7_plainAt 70 = .ok (.ifCond .eq 8, 3) := dk_153 0 8 (dk_at dksX7_plainAt_3 0 rfl rfl)
theorem dX7_plainAt_73 : decode cX7_plainAt 73 = .ok (.bipush 15, 2) := dk_16 15 (dk_at dksX7_plainAt_3 3 rfl rfl)
theorem dX7_plainAt_75 : decode cX7_plainAt 75 = .ok (.goto 19, 3) := dk_167 0 19 (dk_at dksX7_plainAt_3 5 rfl rfl)
theorem dX7_plainAt_78 : decode cX7_plainAt 78 = .ok (.aload_n 0, 1) := dk_42 (dk_at dksX7_plainAt_3 8 rfl rfl)
theorem dX7_plainAt_79 : decode cX7_plainAt 79 = .ok (.ldc2_w 319, 3) := dk_20 1 63 (dk_at dksX7_plainAt_3 9 rfl rfl)
theorem dX7_plainAt_82 : decode cX7_plainAt 82 = .ok (.invokevirtual 287, 3) := dk_182 1 31 (dk_at dksX7_plainAt_3 12 rfl rfl)
theorem dX7_plainAt_85 : decode cX7_plainAt 85 = .ok (.ifCond .eq 8, 3) := dk_153 0 8 (dk_at dksX7_plainAt_3 15 rfl rfl)
theorem dX7_plainAt_88 : decode cX7_plainAt 88 = .ok (.bipush 16, 2) := dk_16 16 (dk_at dksX7_plainAt_3 18 rfl rfl)
theorem dX7_plainAt_90 : decode cX7_plainAt 90 = .ok (.goto 4, 3) := dk_167 0 4 (dk_at dksX7_plainAt_3 20 rfl rfl)
theorem dX7_plainAt_93 : decode cX7_plainAt 93 = .ok (.iconst (-1), 1) := dk_2 (dk_at dksX7_plainAt_3 23 rfl rfl)
theorem dX7_plainAt_94 : decode cX7_plainAt 94 = .ok (.ireturn, 1) := dk_172 (dk_at dksX7_plainAt_4 0 rfl rfl)
def dkwX7_leaf_1 : List UInt8 := [180, 0, 226, 154, 0, 19, 42, 28, 29, 182, 1, 18, 42, 89, 180, 1, 71, 4, 96, 181, 1, 71, 177]
abbrev dktX7_leaf_1 : List UInt8 := dkwX7_leaf_1 ++ []
def dkwX7_leaf_0 : List UInt8 := [42, 27, 153, 0, 16, 42, 180, 1, 71, 16, 50, 162, 0, 7, 4, 167, 0, 4, 3, 182, 1, 5, 42]
abbrev dktX7_leaf_0 : List UInt8 := dkwX7_leaf_0 ++ dktX7_leaf_1
theorem dksX7_leaf_0 : cX7_leaf.data.toList.drop 0 = dktX7_leaf_0 := by decide +kernel
theorem dksX7_leaf_1 : cX7_leaf.data.toList.drop 23 = dktX7_leaf_1 := dk_seg dksX7_leaf_0 23 rfl rfl
theorem dX7_leaf_0 : decode cX7_leaf 0 = .ok (.aload_n 0, 1) := dk_42 (dk_at dksX7_leaf_0 0 rfl rfl)
theorem dX7_leaf_1 : decode cX7_leaf 1 = .ok (.iload_n 1, 1) := dk_27 (dk_at dksX7_leaf_0 1 rfl rfl)
theorem dX7_leaf_2 : decode cX7_leaf 2 = .ok (.ifCond .eq 16, 3) := dk_153 0 16 (dk_at dksX7_leaf_0 2 rfl rfl)
theorem dX7_leaf_5 : decode cX7_leaf 5 = .ok (.aload_n 0, 1) := dk_42 (dk_at dksX7_leaf_0 5 rfl rfl)
theorem dX7_leaf_6 : decode cX7_leaf 6 = .ok (.getfield 327, 3) := dk_180 1 71 (dk_at dksX7_leaf_0 6 rfl rfl)
theorem dX7_leaf_9 : decode cX7_leaf 9 = .ok (.bipush 50, 2) := dk_16 50 (dk_at dksX7_leaf_0 9 rfl rfl)
theorem dX7_leaf_11 : decode cX7_leaf 11 = .ok (.if_icmp .ge 7, 3) := dk_162 0 7 (dk_at dksX7_leaf_0 11 rfl rfl)
theorem dX7_leaf_14 : decode cX7_leaf 14 = .ok (.iconst 1, 1) := dk_4 (dk_at dksX7_leaf_0 14 rfl rfl)
theorem dX7_leaf_15 : decode cX7_leaf 15 = .ok (.goto 4, 3) := dk_167 0 4 (dk_at dksX7_leaf_0 15 rfl rfl)
theorem dX7_leaf_18 : decode cX7_leaf 18 = .ok (.iconst 0, 1) := dk_3 (dk_at dksX7_leaf_0 18 rfl rfl)
theorem dX7_leaf_19 : decode cX7_leaf 19 = .ok (.invokevirtual 261, 3) := dk_182 1 5 (dk_at dksX7_leaf_0 19 rfl rfl)
theorem dX7_leaf_22 : decode cX7_leaf 22 = .ok (.aload_n 0, 1) := dk_42 (dk_at dksX7_leaf_0 22 rfl rfl)
theorem dX7_leaf_23 : decode cX7_leaf 23 = .ok (.getfield 226, 3) := dk_180 0 226 (dk_at dksX7_leaf_1 0 rfl rfl)
theorem dX7_leaf_26 : decode cX7_leaf 26 = .ok (.ifCond .ne 19, 3) := dk_154 0 19 (dk_at dksX7_leaf_1 3 rfl rfl)
theorem dX7_leaf_29 : decode cX7_leaf 29 = .ok (.aload_n 0, 1) := dk_42 (dk_at dksX7_leaf_1 6 rfl rfl)
theorem dX7_leaf_30 : decode cX7_leaf 30 = .ok (.iload_n 2, 1) := dk_28 (dk_at dksX7_leaf_1 7 rfl rfl)
theorem dX7_leaf_31 : decode cX7_leaf 31 = .ok (.iload_n 3, 1) := dk_29 (dk_at dksX7_leaf_1 8 rfl rfl)
theorem dX7_leaf_32 : decode cX7_leaf 32 = .ok (.invokevirtual 274, 3) := dk_182 1 18 (dk_at dksX7_leaf_1 9 rfl rfl)
theorem dX7_leaf_35 : decode cX7_leaf 35 = .ok (.aload_n 0, 1) := dk_42 (dk_at dksX7_leaf_1 12 rfl rfl)
theorem dX7_leaf_36 : decode cX7_leaf 36 = .ok (.dup, 1) := dk_89 (dk_at dksX7_leaf_1 13 rfl rfl)
theorem dX7_leaf_37 : decode cX7_leaf 37 = .ok (.getfield 327, 3) := dk_180 1 71 (dk_at dksX7_leaf_1 14 rfl rfl)
theorem dX7_leaf_40 : decode cX7_leaf 40 = .ok (.iconst 1, 1) := dk_4 (dk_at dksX7_leaf_1 17 rfl rfl)
theorem dX7_leaf_41 : decode cX7_leaf 41 = .ok (.iadd, 1) := dk_96 (dk_at dksX7_leaf_1 18 rfl rfl)
theorem dX7_leaf_42 : decode cX7_leaf 42 = .ok (.putfield 327, 3) := dk_181 1 71 (dk_at dksX7_leaf_1 19 rfl rfl)
theorem dX7_leaf_45 : decode cX7_leaf 45 = .ok (.return_, 1) := dk_177 (dk_at dksX7_leaf_1 22 rfl rfl)
def dkwX7_emit_1 : List UInt8 := [180, 1, 9, 4, 96, 181, 1, 9, 177]
abbrev dktX7_emit_1 : List UInt8 := dkwX7_emit_1 ++ []
def dkwX7_emit_0 : List UInt8 := [42, 180, 0, 37, 42, 180, 1, 9, 27, 79, 42, 180, 0, 40, 42, 180, 1, 9, 28, 79, 42, 89]
abbrev dktX7_emit_0 : List UInt8 := dkwX7_emit_0 ++ dktX7_emit_1
theorem dksX7_emit_0 : cX7_emit.data.toList.drop 0 = dktX7_emit_0 := by decide +kernel
theorem dksX7_emit_1 : cX7_emit.data.toList.drop 22 = dktX7_emit_1 := dk_seg dksX7_emit_0 22 rfl rfl
theorem dX7_emit_0 : decode cX7_emit 0 = .ok (.aload_n 0, 1) := dk_42 (dk_at dksX7_emit_0 0 rfl rfl)
theorem dX7_emit_1 : decode cX7_emit 1 = .ok (.getfield 37, 3) := dk_180 0 37 (dk_at dksX7_emit_0 1 rfl rfl)
theorem dX7_emit_4 : decode cX7_emit 4 = .ok (.aload_n 0, 1) := dk_42 (dk_at dksX7_emit_0 4 rfl rfl)
theorem dX7_emit_5 : decode cX7_emit 5 = .ok (.getfield 265, 3) := dk_180 1 9 (dk_at dksX7_emit_0 5 rfl rfl)
theorem dX7_emit_8 : decode cX7_emit 8 = .ok (.iload_n 1, 1) := dk_27 (dk_at dksX7_emit_0 8 rfl rfl)
theorem dX7_emit_9 : decode cX7_emit 9 = .ok (.iastore, 1) := dk_79 (dk_at dksX7_emit_0 9 rfl rfl)
theorem dX7_emit_10 : decode cX7_emit 10 = .ok (.aload_n 0, 1) := dk_42 (dk_at dksX7_emit_0 10 rfl rfl)
theorem dX7_emit_11 : decode cX7_emit 11 = .ok (.getfield 40, 3) := dk_180 0 40 (dk_at dksX7_emit_0 11 rfl rfl)
theorem dX7_emit_14 : decode cX7_emit 14 = .ok (.aload_n 0, 1) := dk_42 (dk_at dksX7_emit_0 14 rfl rfl)
theorem dX7_emit_15 : decode cX7_emit 15 = .ok (.getfield 265, 3) := dk_180 1 9 (dk_at dksX7_emit_0 15 rfl rfl)
theorem dX7_emit_18 : decode cX7_emit 18 = .ok (.iload_n 2, 1) := dk_28 (dk_at dksX7_emit_0 18 rfl rfl)
theorem dX7_emit_19 : decode cX7_emit 19 = .ok (.iastore, 1) := dk_79 (dk_at dksX7_emit_0 19 rfl rfl)
theorem dX7_emit_20 : decode cX7_emit 20 = .ok (.aload_n 0, 1) := dk_42 (dk_at dksX7_emit_0 20 rfl rfl)
theorem dX7_emit_21 : decode cX7_emit 21 = .ok (.dup, 1) := dk_89 (dk_at dksX7_emit_0 21 rfl rfl)
theorem dX7_emit_22 : decode cX7_emit 22 = .ok (.getfield 265, 3) := dk_180 1 9 (dk_at dksX7_emit_1 0 rfl rfl)
theorem dX7_emit_25 : decode cX7_emit 25 = .ok (.iconst 1, 1) := dk_4 (dk_at dksX7_emit_1 3 rfl rfl)
theorem dX7_emit_26 : decode cX7_emit 26 = .ok (.iadd, 1) := dk_96 (dk_at dksX7_emit_1 4 rfl rfl)
theorem dX7_emit_27 : decode cX7_emit 27 = .ok (.putfield 265, 3) := dk_181 1 9 (dk_at dksX7_emit_1 5 rfl rfl)
theorem dX7_emit_30 : decode cX7_emit 30 = .ok (.return_, 1) := dk_177 (dk_at dksX7_emit_1 8 rfl rfl)
def dkwX7_readPart_3 : List UInt8 := [27, 28, 153, 0, 11, 42, 180, 0, 236, 136, 167, 0, 4, 3, 182, 1, 86, 6, 172]
abbrev dktX7_readPart_3 : List UInt8 := dkwX7_readPart_3 ++ []
def dkwX7_readPart_2 : List UInt8 := [42, 27, 2, 160, 0, 7, 28, 153, 0, 7, 4, 167, 0, 4, 3, 27, 2, 160, 0, 7, 3, 167, 0, 4]
abbrev dktX7_readPart_2 : List UInt8 := dkwX7_readPart_2 ++ dktX7_readPart_3
def dkwX7_readPart_1 : List UInt8 := [180, 0, 246, 5, 160, 0, 18, 42, 180, 0, 236, 20, 1, 84, 148, 157, 0, 7, 4, 167, 0, 4, 3, 61]
abbrev dktX7_readPart_1 : List UInt8 := dkwX7_readPart_1 ++ dktX7_readPart_2
def dkwX7_readPart_0 : List UInt8 := [42, 16, 91, 182, 1, 74, 153, 0, 11, 42, 16, 31, 182, 1, 77, 4, 172, 42, 182, 1, 80, 60, 42]
abbrev dktX7_readPart_0 : List UInt8 := dkwX7_readPart_0 ++ dktX7_readPart_1
theorem dksX7_readPart_0 : cX7_readPart.data.toList.drop 0 = dktX7_readPart_0 := by decide +kernel
theorem dksX7_readPart_1 : cX7_readPart.data.toList.drop 23 = dktX7_readPart_1 := dk_seg dksX7_readPart_0 23 rfl rfl
theorem dksX7_readPart_2 : cX7_readPart.data.toList.drop 47 = dktX7_readPart_2 := dk_seg dksX7_readPart_1 24 rfl rfl
theorem dksX7_readPart_3 : cX7_readPart.data.toList.drop 71 = dktX7_readPart_3 := dk_seg dksX7_readPart_2 24 rfl rfl
theorem dX7_readPart_0 : decode cX7_readPart 0 = .ok (.aload_n 0, 1) := dk_42 (dk_at dksX7_readPart_0 0 rfl rfl)
theorem dX7_readPart_1 : decode cX7_readPart 1 = .ok (.bipush 91, 2) := dk_16 91 (dk_at dksX7_readPart_0 1 rfl rfl)
theorem dX7_readPart_3 : decode cX7_readPart 3 = .ok (.invokevirtual 330, 3) := dk_182 1 74 (dk_at dksX7_readPart_0 3 rfl rfl)
theorem dX7_readPart_6 : decode cX7_readPart 6 = .ok (.ifCond .eq 11, 3) := dk_153 0 11 (dk_at dksX7_readPart_0 6 rfl rfl)
theorem dX7_readPart_9 : decode cX7_readPart 9 = .ok (.aload_n 0, 1) := dk_42 (dk_at dksX7_readPart_0 9 rfl rfl)
theorem dX7_readPart_10 : decode cX7_readPart 10 = .ok (.bipush 31, 2) := dk_16 31 (dk_at dksX7_readPart_0 10 rfl rfl)
theorem dX7_readPart_12 : decode cX7_readPart 12 = .ok (.invokevirtual 333, 3) := dk_182 1 77 (dk_at dksX7_readPart_0 12 rfl rfl)
theorem dX7_readPart_15 : decode cX7_readPart 15 = .ok (.iconst 1, 1) := dk_4 (dk_at dksX7_readPart_0 15 rfl rfl)
theorem dX7_readPart_16 : decode cX7_readPart 16 = .ok (.ireturn, 1) := dk_172 (dk_at dksX7_readPart_0 16 rfl rfl)
theorem dX7_readPart_17 : decode cX7_readPart 17 = .ok (.aload_n 0, 1) := dk_42 (dk_at dksX7_readPart_0 17 rfl rfl)
theorem dX7_readPart_18 : decode cX7_readPart 18 = .ok (.invokevirtual 336, 3) := dk_182 1 80 (dk_at dksX7_readPart_0 18 rfl rfl)
theorem dX7_readPart_21 : decode cX7_readPart 21 = .ok (.istore_n 1, 1) := dk_60 (dk_at dksX7_readPart_0 21 rfl rfl)
theorem dX7_readPart_22 : decode cX7_readPart 22 = .ok (.aload_n 0, 1) := dk_42 (dk_at dksX7_readPart_0 22 rfl rfl)
theorem dX7_readPart_23 : decode cX7_readPart 23 = .ok (.getfield 246, 3) := dk_180 0 246 (dk_at dksX7_readPart_1 0 rfl rfl)
theorem dX7_readPart_26 : decode cX7_readPart 26 = .ok (.iconst 2, 1) := dk_5 (dk_at dksX7_readPart_1 3 rfl rfl)
theorem dX7_readPart_27 : decode cX7_readPart 27 = .ok (.if_icmp .ne 18, 3) := dk_160 0 18 (dk_at dksX7_readPart_1 4 rfl rfl)
theorem dX7_readPart_30 : decode cX7_readPart 30 = .ok (.aload_n 0, 1) := dk_42 (dk_at dksX7_readPart_1 7 rfl rfl)
theorem dX7_readPart_31 : decode cX7_readPart 31 = .ok (.getfield 236, 3) := dk_180 0 236 (dk_at dksX7_readPart_1 8 rfl rfl)
theorem dX7_readPart_34 : decode cX7_readPart 34 = .ok (.ldc2_w 340, 3) := dk_20 1 84 (dk_at dksX7_readPart_1 11 rfl rfl)
theorem dX7_readPart_37 : decode cX7_readPart 37 = .ok (.lcmp, 1) := dk_148 (dk_at dksX7_readPart_1 14 rfl rfl)
theorem dX7_readPart_38 : decode cX7_readPart 38 = .ok (.ifCond .gt 7, 3) := dk_157 0 7 (dk_at dksX7_readPart_1 15 rfl rfl)
theorem dX7_readPart_41 : decode cX7_readPart 41 = .ok (.iconst 1, 1) := dk_4 (dk_at dksX7_readPart_1 18 rfl rfl)
theorem dX7_readPart_42 : decode cX7_readPart 42 = .ok (.goto 4, 3) := dk_167 0 4 (dk_at dksX7_readPart_1 19 rfl rfl)
theorem dX7_readPart_45 : decode cX7_readPart 45 = .ok (.iconst 0, 1) := dk_3 (dk_at dksX7_readPart_1 22 rfl rfl)
theorem dX7_readPart_46 : decode cX7_readPart 46 = .ok (.istore_n 2, 1) := dk_61 (dk_at dksX7_readPart_1 23 rfl rfl)
theorem dX7_readPart_47 : decode cX7_readPart 47 = .ok (.aload_n 0, 1) := dk_42 (dk_at dksX7_readPart_2 0 rfl rfl)
theorem dX7_readPart_48 : decode cX7_readPart 48 = .ok (.iload_n 1, 1) := dk_27 (dk_at dksX7_readPart_2 1 rfl rfl)
theorem dX7_readPart_49 : decode cX7_readPart 49 = .ok (.iconst (-1), 1) := dk_2 (dk_at dksX7_readPart_2 2 rfl rfl)
theorem dX7_readPart_50 : decode cX7_readPart 50 = .ok (.if_icmp .ne 7, 3) := dk_160 0 7 (dk_at dksX7_readPart_2 3 rfl rfl)
theorem dX7_readPart_53 : decode cX7_readPart 53 = .ok (.iload_n 2, 1) := dk_28 (dk_at dksX7_readPart_2 6 rfl rfl)
theorem dX7_readPart_54 : decode cX7_readPart 54 = .ok (.ifCond .eq 7, 3) := dk_153 0 7 (dk_at dksX7_readPart_2 7 rfl rfl)
theorem dX7_readPart_57 : decode cX7_readPart 57 = .ok (.iconst 1, 1) := dk_4 (dk_at dksX7_readPart_2 10 rfl rfl)
theorem dX7_readPart_58 : decode cX7_readPart 58 = .ok (.goto 4, 3) := dk_167 0 4 (dk_at dksX7_readPart_2 11 rfl rfl)
theorem dX7_readPart_61 : decode cX7_readPart 61 = .ok (.iconst 0, 1) := dk_3 (dk_at dksX7_readPart_2 14 rfl rfl)
theorem dX7_readPart_62 : decode cX7_readPart 62 = .ok (.iload_n 1, 1) := dk_27 (dk_at dksX7_readPart_2 15 rfl rfl)
theorem dX7_readPart_63 : decode cX7_readPart 63 = .ok (.iconst (-1), 1) := dk_2 (dk_at dksX7_readPart_2 16 rfl rfl)
theorem dX7_readPart_64 : decode cX7_readPart 64 = .ok (.if_icmp .ne 7, 3) := dk_160 0 7 (dk_at dksX7_readPart_2 17 rfl rfl)
theorem dX7_readPart_67 : decode cX7_readPart 67 = .ok (.iconst 0, 1) := dk_3 (dk_at dksX7_readPart_2 20 rfl rfl)
theorem dX7_readPart_68 : decode cX7_readPart 68 = .ok (.goto 4, 3) := dk_167 0 4 (dk_at dksX7_readPart_2 21 rfl rfl)
theorem dX7_readPart_71 : decode cX7_readPart 71 = .ok (.iload_n 1, 1) := dk_27 (dk_at dksX7_readPart_3 0 rfl rfl)
theorem dX7_readPart_72 : decode cX7_readPart 72 = .ok (.iload_n 2, 1) := dk_28 (dk_at dksX7_readPart_3 1 rfl rfl)
theorem dX7_readPart_73 : decode cX7_readPart 73 = .ok (.ifCond .eq 11, 3) := dk_153 0 11 (dk_at dksX7_readPart_3 2 rfl rfl)
theorem dX7_readPart_76 : decode cX7_readPart 76 = .ok (.aload_n 0, 1) := dk_42 (dk_at dksX7_readPart_3 5 rfl rfl)
theorem dX7_readPart_77 : decode cX7_readPart 77 = .ok (.getfield 236, 3) := dk_180 0 236 (dk_at dksX7_readPart_3 6 rfl rfl)
theorem dX7_readPart_80 : decode cX7_readPart 80 = .ok (.l2i, 1) := dk_136 (dk_at dksX7_readPart_3 9 rfl rfl)
theorem dX7_readPart_81 : decode cX7_readPart 81 = .ok (.goto 4, 3) := dk_167 0 4 (dk_at dksX7_readPart_3 10 rfl rfl)
theorem dX7_readPart_84 : decode cX7_readPart 84 = .ok (.iconst 0, 1) := dk_3 (dk_at dksX7_readPart_3 13 rfl rfl)
theorem dX7_readPart_85 : decode cX7_readPart 85 = .ok (.invokevirtual 342, 3) := dk_182 1 86 (dk_at dksX7_readPart_3 14 rfl rfl)
theorem dX7_readPart_88 : decode cX7_readPart 88 = .ok (.iconst 3, 1) := dk_6 (dk_at dksX7_readPart_3 17 rfl rfl)
theorem dX7_readPart_89 : decode cX7_readPart 89 = .ok (.ireturn, 1) := dk_172 (dk_at dksX7_readPart_3 18 rfl rfl)
def dkwX7_partAt_9 : List UInt8 := [16, 11, 167, 0, 4, 2, 172]
abbrev dktX7_partAt_9 : List UInt8 := dkwX7_partAt_9 ++ []
def dkwX7_partAt_8 : List UInt8 := [20, 1, 51, 182, 1, 31, 153, 0, 8, 16, 10, 167, 0, 19, 42, 20, 1, 53, 182, 1, 31, 153, 0, 8]
abbrev dktX7_partAt_8 : List UInt8 := dkwX7_partAt_8 ++ dktX7_partAt_9
def dkwX7_partAt_7 : List UInt8 := [16, 7, 167, 0, 5, 16, 8, 172, 42, 20, 1, 49, 182, 1, 31, 153, 0, 8, 16, 9, 167, 0, 34, 42]
abbrev dktX7_partAt_7 : List UInt8 := dkwX7_partAt_7 ++ dktX7_partAt_8
def dkwX7_partAt_6 : List UInt8 := [20, 1, 43, 182, 1, 31, 153, 0, 8, 16, 6, 167, 0, 20, 42, 20, 1, 45, 182, 1, 31, 153, 0, 8]
abbrev dktX7_partAt_6 : List UInt8 := dkwX7_partAt_6 ++ dktX7_partAt_7
def dkwX7_partAt_5 : List UInt8 := [20, 1, 47, 182, 1, 31, 153, 0, 50, 42, 20, 1, 41, 182, 1, 31, 153, 0, 7, 8, 167, 0, 35, 42]
abbrev dktX7_partAt_5 : List UInt8 := dkwX7_partAt_5 ++ dktX7_partAt_6
def dkwX7_partAt_4 : List UInt8 := [154, 0, 33, 42, 20, 1, 43, 182, 1, 31, 154, 0, 23, 42, 20, 1, 45, 182, 1, 31, 154, 0, 13, 42]
abbrev dktX7_partAt_4 : List UInt8 := dkwX7_partAt_4 ++ dktX7_partAt_5
def dkwX7_partAt_3 : List UInt8 := [20, 1, 37, 182, 1, 31, 153, 0, 7, 6, 167, 0, 4, 7, 172, 42, 20, 1, 41, 182, 1, 31]
abbrev dktX7_partAt_3 : List UInt8 := dkwX7_partAt_3 ++ dktX7_partAt_4
def dkwX7_partAt_2 : List UInt8 := [153, 0, 7, 4, 167, 0, 32, 42, 20, 1, 35, 182, 1, 31, 153, 0, 7, 5, 167, 0, 18, 42]
abbrev dktX7_partAt_2 : List UInt8 := dkwX7_partAt_2 ++ dktX7_partAt_3
def dkwX7_partAt_1 : List UInt8 := [182, 1, 31, 154, 0, 13, 42, 20, 1, 39, 182, 1, 31, 153, 0, 47, 42, 20, 1, 29, 182, 1, 31]
abbrev dktX7_partAt_1 : List UInt8 := dkwX7_partAt_1 ++ dktX7_partAt_2
def dkwX7_partAt_0 : List UInt8 := [42, 20, 1, 29, 182, 1, 31, 154, 0, 33, 42, 20, 1, 35, 182, 1, 31, 154, 0, 23, 42, 20, 1, 37]
abbrev dktX7_partAt_0 : List UInt8 := dkwX7_partAt_0 ++ dktX7_partAt_1
theorem dksX7_partAt_0 : cX7_partAt.data.toList.drop 0 = dktX7_partAt_0 := by decide +kernel
theorem dksX7_partAt_1 : cX7_partAt.data.toList.drop 24 = dktX7_partAt_1 := dk_seg dksX7_partAt_0 24 rfl rfl
theorem dksX7_partAt_2 : cX7_partAt.data.toList.drop 47 = dktX7_partAt_2 := dk_seg dksX7_partAt_1 23 rfl rfl
theorem dksX7_partAt_3 : cX7_partAt.data.toList.drop 69 = dktX7_partAt_3 := dk_seg dksX7_partAt_2 22 rfl rfl
theorem dksX7_partAt_4 : cX7_partAt.data.toList.drop 91 = dktX7_partAt_4 := dk_seg dksX7_partAt_3 22 rfl rfl
theorem dksX7_partAt_5 : cX7_partAt.data.toList.drop 115 = dktX7_partAt_5 := dk_seg dksX7_partAt_4 24 rfl rfl
theorem dksX7_partAt_6 : cX7_partAt.data.toList.drop 139 = dktX7_partAt_6 := dk_seg dksX7_partAt_5 24 rfl rfl
theorem dksX7_partAt_7 : cX7_partAt.data.toList.drop 163 = dktX7_partAt_7 := dk_seg dksX7_partAt_6 24 rfl rfl
theorem dksX7_partAt_8 : cX7_partAt.data.toList.drop 187 = dktX7_partAt_8 := dk_seg dksX7_partAt_7 24 rfl rfl
theorem dksX7_partAt_9 : cX7_partAt.data.toList.drop 211 = dktX7_partAt_9 := dk_seg dksX7_partAt_8 24 rfl rfl
theorem dX7_partAt_0 : decode cX7_partAt 0 = .ok (.aload_n 0, 1) := dk_42 (dk_at dksX7_partAt_0 0 rfl rfl)
theorem dX7_partAt_1 : decode cX7_partAt 1 = .ok (.ldc2_w 285, 3) := dk_20 1 29 (dk_at dksX7_partAt_0 1 rfl rfl)
theorem dX7_partAt_4 : decode cX7_partAt 4 = .ok (.invokevirtual 287, 3) := dk_182 1 31 (dk_at dksX7_partAt_0 4 rfl rfl)
theorem dX7_partAt_7 : decode cX7_partAt 7 = .ok (.ifCond .ne 33, 3) := dk_154 0 33 (dk_at dksX7_partAt_0 7 rfl rfl)
theorem dX7_partAt_10 : decode cX7_partAt 10 = .ok (.aload_n 0, 1) := dk_42 (dk_at dksX7_partAt_0 10 rfl rfl)
theorem dX7_partAt_11 : decode cX7_partAt 11 = .ok (.ldc2_w 291, 3) := dk_20 1 35 (dk_at dksX7_partAt_0 11 rfl rfl)
theorem dX7_partAt_14 : decode cX7_partAt 14 = .ok (.invokevirtual 287, 3) := dk_182 1 31 (dk_at dksX7_partAt_0 14 rfl rfl)
theorem dX7_partAt_17 : decode cX7_partAt 17 = .ok (.ifCond .ne 23, 3) := dk_154 0 23 (dk_at dksX7_partAt_0 17 rfl rfl)
theorem dX7_partAt_20 : decode cX7_partAt 20 = .ok (.aload_n 0, 1) := dk_42 (dk_at dksX7_partAt_0 20 rfl rfl)
theorem dX7_partAt_21 : decode cX7_partAt 21 = .ok (.ldc2_w 293, 3) := dk_20 1 37 (dk_at dksX7_partAt_0 21 rfl rfl)
theorem dX7_partAt_24 : decode cX7_partAt 24 = .ok (.invokevirtual 287, 3) := dk_182 1 31 (dk_at dksX7_partAt_1 0 rfl rfl)
theorem dX7_partAt_27 : decode cX7_partAt 27 = .ok (.ifCond .ne 13, 3) := dk_154 0 13 (dk_at dksX7_partAt_1 3 rfl rfl)
theorem dX7_partAt_30 : decode cX7_partAt 30 = .ok (.aload_n 0, 1) := dk_42 (dk_at dksX7_partAt_1 6 rfl rfl)
theorem dX7_partAt_31 : decode cX7_partAt 31 = .ok (.ldc2_w 295, 3) := dk_20 1 39 (dk_at dksX7_partAt_1 7 rfl rfl)
theorem dX7_partAt_34 : decode cX7_partAt 34 = .ok (.invokevirtual 287, 3) := dk_182 1 31 (dk_at dksX7_partAt_1 10 rfl rfl)
theorem dX7_partAt_37 : decode cX7_partAt 37 = .ok (.ifCond .eq 47, 3) := dk_153 0 47 (dk_at dksX7_partAt_1 13 rfl rfl)
theorem dX7_partAt_40 : decode cX7_partAt 40 = .ok (.aload_n 0, 1) := dk_42 (dk_at dksX7_partAt_1 16 rfl rfl)
theorem dX7_partAt_41 : decode cX7_partAt 41 = .ok (.ldc2_w 285, 3) := dk_20 1 29 (dk_at dksX7_partAt_1 17 rfl rfl)
theorem dX7_partAt_44 : decode cX7_partAt 44 = .ok (.invokevirtual 287, 3) := dk_182 1 31 (dk_at dksX7_partAt_1 20 rfl rfl)
theorem dX7_partAt_47 : decode cX7_partAt 47 = .ok (.ifCond .eq 7, 3) := dk_153 0 7 (dk_at dksX7_partAt_2 0 rfl rfl)
theorem dX7_partAt_50 : decode cX7_partAt 50 = .ok (.iconst 1, 1) := dk_4 (dk_at dksX7_partAt_2 3 rfl rfl)
theorem dX7_partAt_51 : decode cX7_partAt 51 = .ok (.goto 32, 3) := dk_167 0 32 (dk_at dksX7_partAt_2 4 rfl rfl)
theorem dX7_partAt_54 : decode cX7_partAt 54 = .ok (.aload_n 0, 1) := dk_42 (dk_at dksX7_partAt_2 7 rfl rfl)
theorem dX7_partAt_55 : decode cX7_partAt 55 = .ok (.ldc2_w 291, 3) := dk_20 1 35 (dk_at dksX7_partAt_2 8 rfl rfl)
theorem dX7_partAt_58 : decode cX7_partAt 58 = .ok (.invokevirtual 287, 3) := dk_182 1 31 (dk_at dksX7_partAt_2 11 rfl rfl)
theorem dX7_partAt_61 : decode cX7_partAt 61 = .ok (.ifCond .eq 7, 3) := dk_153 0 7 (dk_at dksX7_partAt_2 14 rfl rfl)
theorem dX7_partAt_64 : decode cX7_partAt 64 = .ok (.iconst 2, 1) := dk_5 (dk_at dksX7_partAt_2 17 rfl rfl)
theorem dX7_partAt_65 : decode cX7_partAt 65 = .ok (.goto 18, 3) := dk_167 0 18 (dk_at dksX7_partAt_2 18 rfl rfl)
theorem dX7_partAt_68 : decode cX7_partAt 68 = .ok (.aload_n 0, 1) := dk_42 (dk_at dksX7_partAt_2 21 rfl rfl)
theorem dX7_partAt_69 : decode cX7_partAt 69 = .ok (.ldc2_w 293, 3) := dk_20 1 37 (dk_at dksX7_partAt_3 0 rfl rfl)
theorem dX7_partAt_72 : decode cX7_partAt 72 = .ok (.invokevirtual 287, 3) := dk_182 1 31 (dk_at dksX7_partAt_3 3 rfl rfl)
theorem dX7_partAt_75 : decode cX7_partAt 75 = .ok (.ifCond .eq 7, 3) := dk_153 0 7 (dk_at dksX7_partAt_3 6 rfl rfl)
theorem dX7_partAt_78 : decode cX7_partAt 78 = .ok (.iconst 3, 1) := dk_6 (dk_at dksX7_partAt_3 9 rfl rfl)
theorem dX7_partAt_79 : decode cX7_partAt 79 = .ok (.goto 4, 3) := dk_167 0 4 (dk_at dksX7_partAt_3 10 rfl rfl)
theorem dX7_partAt_82 : decode cX7_partAt 82 = .ok (.iconst 4, 1) := dk_7 (dk_at dksX7_partAt_3 13 rfl rfl)
theorem dX7_partAt_83 : decode cX7_partAt 83 = .ok (.ireturn, 1) := dk_172 (dk_at dksX7_partAt_3 14 rfl rfl)
theorem dX7_partAt_84 : decode cX7_partAt 84 = .ok (.aload_n 0, 1) := dk_42 (dk_at dksX7_partAt_3 15 rfl rfl)
theorem dX7_partAt_85 : decode cX7_partAt 85 = .ok (.ldc2_w 297, 3) := dk_20 1 41 (dk_at dksX7_partAt_3 16 rfl rfl)
theorem dX7_partAt_88 : decode cX7_partAt 88 = .ok (.invokevirtual 287, 3) := dk_182 1 31 (dk_at dksX7_partAt_3 19 rfl rfl)
theorem dX7_partAt_91 : decode cX7_partAt 91 = .ok (.ifCond .ne 33, 3) := dk_154 0 33 (dk_at dksX7_partAt_4 0 rfl rfl)
theorem dX7_partAt_94 : decode cX7_partAt 94 = .ok (.aload_n 0, 1) := dk_42 (dk_at dksX7_partAt_4 3 rfl rfl)
theorem dX7_partAt_95 : decode cX7_partAt 95 = .ok (.ldc2_w 299, 3) := dk_20 1 43 (dk_at dksX7_partAt_4 4 rfl rfl)
theorem dX7_partAt_98 : decode cX7_partAt 98 = .ok (.invokevirtual 287, 3) := dk_182 1 31 (dk_at dksX7_partAt_4 7 rfl rfl)
theorem dX7_partAt_101 : decode cX7_partAt 101 = .ok (.ifCond .ne 23, 3) := dk_154 0 23 (dk_at dksX7_partAt_4 10 rfl rfl)
theorem dX7_partAt_104 : decode cX7_partAt 104 = .ok (.aload_n 0, 1) := dk_42 (dk_at dksX7_partAt_4 13 rfl rfl)
theorem dX7_partAt_105 : decode cX7_partAt 105 = .ok (.ldc2_w 301, 3) := dk_20 1 45 (dk_at dksX7_partAt_4 14 rfl rfl)
theorem dX7_partAt_108 : decode cX7_partAt 108 = .ok (.invokevirtual 287, 3) := dk_182 1 31 (dk_at dksX7_partAt_4 17 rfl rfl)
theorem dX7_partAt_111 : decode cX7_partAt 111 = .ok (.ifCond .ne 13, 3) := dk_154 0 13 (dk_at dksX7_partAt_4 20 rfl rfl)
theorem dX7_partAt_114 : decode cX7_partAt 114 = .ok (.aload_n 0, 1) := dk_42 (dk_at dksX7_partAt_4 23 rfl rfl)
theorem dX7_partAt_115 : decode cX7_partAt 115 = .ok (.ldc2_w 303, 3) := dk_20 1 47 (dk_at dksX7_partAt_5 0 rfl rfl)
theorem dX7_partAt_118 : decode cX7_partAt 118 = .ok (.invokevirtual 287, 3) := dk_182 1 31 (dk_at dksX7_partAt_5 3 rfl rfl)
theorem dX7_partAt_121 : decode cX7_partAt 121 = .ok (.ifCond .eq 50, 3) := dk_153 0 50 (dk_at dksX7_partAt_5 6 rfl rfl)
theorem dX7_partAt_124 : decode cX7_partAt 124 = .ok (.aload_n 0, 1) := dk_42 (dk_at dksX7_partAt_5 9 rfl rfl)
theorem dX7_partAt_125 : decode cX7_partAt 125 = .ok (.ldc2_w 297, 3) := dk_20 1 41 (dk_at dksX7_partAt_5 10 rfl rfl)
theorem dX7_partAt_128 : decode cX7_partAt 128 = .ok (.invokevirtual 287, 3) := dk_182 1 31 (dk_at dksX7_partAt_5 13 rfl rfl)
theorem dX7_partAt_131 : decode cX7_partAt 131 = .ok (.ifCond .eq 7, 3) := dk_153 0 7 (dk_at dksX7_partAt_5 16 rfl rfl)
theorem dX7_partAt_134 : decode cX7_partAt 134 = .ok (.iconst 5, 1) := dk_8 (dk_at dksX7_partAt_5 19 rfl rfl)
theorem dX7_partAt_135 : decode cX7_partAt 135 = .ok (.goto 35, 3) := dk_167 0 35 (dk_at dksX7_partAt_5 20 rfl rfl)
theorem dX7_partAt_138 : decode cX7_partAt 138 = .ok (.aload_n 0, 1) := dk_42 (dk_at dksX7_partAt_5 23 rfl rfl)
theorem dX7_partAt_139 : decode cX7_partAt 139 = .ok (.ldc2_w 299, 3) := dk_20 1 43 (dk_at dksX7_partAt_6 0 rfl rfl)
theorem dX7_partAt_142 : decode cX7_partAt 142 = .ok (.invokevirtual 287, 3) := dk_182 1 31 (dk_at dksX7_partAt_6 3 rfl rfl)
theorem dX7_partAt_145 : decode cX7_partAt 145 = .ok (.ifCond .eq 8, 3) := dk_153 0 8 (dk_at dksX7_partAt_6 6 rfl rfl)
theorem dX7_partAt_148 : decode cX7_partAt 148 = .ok (.bipush 6, 2) := dk_16 6 (dk_at dksX7_partAt_6 9 rfl rfl)
theorem dX7_partAt_150 : decode cX7_partAt 150 = .ok (.goto 20, 3) := dk_167 0 20 (dk_at dksX7_partAt_6 11 rfl rfl)
theorem dX7_partAt_153 : decode cX7_partAt 153 = .ok (.aload_n 0, 1) := dk_42 (dk_at dksX7_partAt_6 14 rfl rfl)
theorem dX7_partAt_154 : decode cX7_partAt 154 = .ok (.ldc2_w 301, 3) := dk_20 1 45 (dk_at dksX7_partAt_6 15 rfl rfl)
theorem dX7_partAt_157 : decode cX7_partAt 157 = .ok (.invokevirtual 287, 3) := dk_182 1 31 (dk_at dksX7_partAt_6 18 rfl rfl)
theorem dX7_partAt_160 : decode cX7_partAt 160 = .ok (.ifCond .eq 8, 3) := dk_153 0 8 (dk_at dksX7_partAt_6 21 rfl rfl)
theorem dX7_partAt_163 : decode cX7_partAt 163 = .ok (.bipush 7, 2) := dk_16 7 (dk_at dksX7_partAt_7 0 rfl rfl)
theorem dX7_partAt_165 : decode cX7_partAt 165 = .ok (.goto 5, 3) := dk_167 0 5 (dk_at dksX7_partAt_7 2 rfl rfl)
theorem dX7_partAt_168 : decode cX7_partAt 168 = .ok (.bipush 8, 2) := dk_16 8 (dk_at dksX7_partAt_7 5 rfl rfl)
theorem dX7_partAt_170 : decode cX7_partAt 170 = .ok (.ireturn, 1) := dk_172 (dk_at dksX7_partAt_7 7 rfl rfl)
theorem dX7_partAt_171 : decode cX7_partAt 171 = .ok (.aload_n 0, 1) := dk_42 (dk_at dksX7_partAt_7 8 rfl rfl)
theorem dX7_partAt_172 : decode cX7_partAt 172 = .ok (.ldc2_w 305, 3) := dk_20 1 49 (dk_at dksX7_partAt_7 9 rfl rfl)
theorem dX7_partAt_175 : decode cX7_partAt 175 = .ok (.invokevirtual 287, 3) := dk_182 1 31 (dk_at dksX7_partAt_7 12 rfl rfl)
theorem dX7_partAt_178 : decode cX7_partAt 178 = .ok (.ifCond .eq 8, 3) := dk_153 0 8 (dk_at dksX7_partAt_7 15 rfl rfl)
theorem dX7_partAt_181 : decode cX7_partAt 181 = .ok (.bipush 9, 2) := dk_16 9 (dk_at dksX7_partAt_7 18 rfl rfl)
theorem dX7_partAt_183 : decode cX7_partAt 183 = .ok (.goto 34, 3) := dk_167 0 34 (dk_at dksX7_partAt_7 20 rfl rfl)
theorem dX7_partAt_186 : decode cX7_partAt 186 = .ok (.aload_n 0, 1) := dk_42 (dk_at dksX7_partAt_7 23 rfl rfl)
theorem dX7_partAt_187 : decode cX7_partAt 187 = .ok (.ldc2_w 307, 3) := dk_20 1 51 (dk_at dksX7_partAt_8 0 rfl rfl)
theorem dX7_partAt_190 : decode cX7_partAt 190 = .ok (.invokevirtual 287, 3) := dk_182 1 31 (dk_at dksX7_partAt_8 3 rfl rfl)
theorem dX7_partAt_193 : decode cX7_partAt 193 = .ok (.ifCond .eq 8, 3) := dk_153 0 8 (dk_at dksX7_partAt_8 6 rfl rfl)
theorem dX7_partAt_196 : decode cX7_partAt 196 = .ok (.bipush 10, 2) := dk_16 10 (dk_at dksX7_partAt_8 9 rfl rfl)
theorem dX7_partAt_198 : decode cX7_partAt 198 = .ok (.goto 19, 3) := dk_167 0 19 (dk_at dksX7_partAt_8 11 rfl rfl)
theorem dX7_partAt_201 : decode cX7_partAt 201 = .ok (.aload_n 0, 1) := dk_42 (dk_at dksX7_partAt_8 14 rfl rfl)
theorem dX7_partAt_202 : decode cX7_partAt 202 = .ok (.ldc2_w 309, 3) := dk_20 1 53 (dk_at dksX7_partAt_8 15 rfl rfl)
theorem dX7_partAt_205 : decode cX7_partAt 205 = .ok (.invokevirtual 287, 3) := dk_182 1 31 (dk_at dksX7_partAt_8 18 rfl rfl)
theorem dX7_partAt_208 : decode cX7_partAt 208 = .ok (.ifCond .eq 8, 3) := dk_153 0 8 (dk_at dksX7_partAt_8 21 rfl rfl)
theorem dX7_partAt_211 : decode cX7_partAt 211 = .ok (.bipush 11, 2) := dk_16 11 (dk_at dksX7_partAt_9 0 rfl rfl)
theorem dX7_partAt_213 : decode cX7_partAt 213 = .ok (.goto 4, 3) := dk_167 0 4 (dk_at dksX7_partAt_9 2 rfl rfl)
theorem dX7_partAt_216 : decode cX7_partAt 216 = .ok (.iconst (-1), 1) := dk_2 (dk_at dksX7_partAt_9 5 rfl rfl)
theorem dX7_partAt_217 : decode cX7_partAt 217 = .ok (.ireturn, 1) := dk_172 (dk_at dksX7_partAt_9 6 rfl rfl)
def dkwX7_behindSum_10 : List UInt8 := [182, 1, 68, 4, 172]
abbrev dktX7_behindSum_10 : List UInt8 := dkwX7_behindSum_10 ++ []
def dkwX7_behindSum_9 : List UInt8 := [167, 0, 4, 3, 182, 1, 5, 42, 180, 0, 226, 154, 0, 14, 42, 8, 182, 1, 98, 42, 28, 3]
abbrev dktX7_behindSum_9 : List UInt8 := dkwX7_behindSum_9 ++ dktX7_behindSum_10
def dkwX7_behindSum_8 : List UInt8 := [167, 0, 5, 16, 26, 61, 42, 28, 16, 26, 160, 0, 12, 42, 16, 61, 182, 1, 74, 153, 0, 7, 4]
abbrev dktX7_behindSum_8 : List UInt8 := dkwX7_behindSum_8 ++ dktX7_behindSum_9
def dkwX7_behindSum_7 : List UInt8 := [182, 1, 74, 153, 0, 8, 16, 24, 167, 0, 19, 42, 16, 62, 182, 1, 74, 153, 0, 8, 16, 25]
abbrev dktX7_behindSum_7 : List UInt8 := dkwX7_behindSum_7 ++ dktX7_behindSum_8
def dkwX7_behindSum_6 : List UInt8 := [172, 29, 2, 160, 0, 9, 27, 154, 0, 5, 7, 172, 42, 182, 1, 104, 153, 0, 5, 5, 172, 42, 16, 60]
abbrev dktX7_behindSum_6 : List UInt8 := dkwX7_behindSum_6 ++ dktX7_behindSum_7
def dkwX7_behindSum_5 : List UInt8 := [182, 1, 98, 42, 89, 180, 1, 12, 4, 100, 181, 1, 12, 42, 89, 180, 1, 65, 4, 100, 181, 1, 65, 6]
abbrev dktX7_behindSum_5 : List UInt8 := dkwX7_behindSum_5 ++ dktX7_behindSum_6
def dkwX7_behindSum_4 : List UInt8 := [160, 0, 47, 42, 42, 16, 93, 182, 1, 74, 182, 1, 5, 42, 180, 0, 226, 154, 0, 28, 42, 8]
abbrev dktX7_behindSum_4 : List UInt8 := dkwX7_behindSum_4 ++ dktX7_behindSum_5
def dkwX7_behindSum_3 : List UInt8 := [182, 1, 98, 42, 28, 3, 182, 1, 68, 42, 182, 0, 230, 4, 172, 42, 182, 1, 101, 62, 29, 16, 31]
abbrev dktX7_behindSum_3 : List UInt8 := dkwX7_behindSum_3 ++ dktX7_behindSum_4
def dkwX7_behindSum_2 : List UInt8 := [182, 1, 74, 153, 0, 8, 16, 23, 167, 0, 4, 2, 61, 28, 2, 159, 0, 23, 42, 28, 184, 1, 15]
abbrev dktX7_behindSum_2 : List UInt8 := dkwX7_behindSum_2 ++ dktX7_behindSum_3
def dkwX7_behindSum_1 : List UInt8 := [16, 21, 167, 0, 32, 42, 16, 42, 182, 1, 74, 153, 0, 8, 16, 22, 167, 0, 18, 42, 16, 47]
abbrev dktX7_behindSum_1 : List UInt8 := dkwX7_behindSum_1 ++ dktX7_behindSum_2
def dkwX7_behindSum_0 : List UInt8 := [42, 16, 43, 182, 1, 74, 153, 0, 8, 16, 20, 167, 0, 46, 42, 16, 45, 182, 1, 74, 153, 0, 8]
abbrev dktX7_behindSum_0 : List UInt8 := dkwX7_behindSum_0 ++ dktX7_behindSum_1
theorem dksX7_behindSum_0 : cX7_behindSum.data.toList.drop 0 = dktX7_behindSum_0 := by decide +kernel
theorem dksX7_behindSum_1 : cX7_behindSum.data.toList.drop 23 = dktX7_behindSum_1 := dk_seg dksX7_behindSum_0 23 rfl rfl
theorem dksX7_behindSum_2 : cX7_behindSum.data.toList.drop 45 = dktX7_behindSum_2 := dk_seg dksX7_behindSum_1 22 rfl rfl
theorem dksX7_behindSum_3 : cX7_behindSum.data.toList.drop 68 = dktX7_behindSum_3 := dk_seg dksX7_behindSum_2 23 rfl rfl
theorem dksX7_behindSum_4 : cX7_behindSum.data.toList.drop 91 = dktX7_behindSum_4 := dk_seg dksX7_behindSum_3 23 rfl rfl
theorem dksX7_behindSum_5 : cX7_behindSum.data.toList.drop 113 = dktX7_behindSum_5 := dk_seg dksX7_behindSum_4 22 rfl rfl
theorem dksX7_behindSum_6 : cX7_behindSum.data.toList.drop 137 = dktX7_behindSum_6 := dk_seg dksX7_behindSum_5 24 rfl rfl
theorem dksX7_behindSum_7 : cX7_behindSum.data.toList.drop 161 = dktX7_behindSum_7 := dk_seg dksX7_behindSum_6 24 rfl rfl
theorem dksX7_behindSum_8 : cX7_behindSum.data.toList.drop 183 = dktX7_behindSum_8 := dk_seg dksX7_behindSum_7 22 rfl rfl
theorem dksX7_behindSum_9 : cX7_behindSum.data.toList.drop 206 = dktX7_behindSum_9 := dk_seg dksX7_behindSum_8 23 rfl rfl
theorem dksX7_behindSum_10 : cX7_behindSum.data.toList.drop 228 = dktX7_behindSum_10 := dk_seg dksX7_behindSum_9 22 rfl rfl
theorem dX7_behindSum_0 : decode cX7_behindSum 0 = .ok (.aload_n 0, 1) := dk_42 (dk_at dksX7_behindSum_0 0 rfl rfl)
theorem dX7_behindSum_1 : decode cX7_behindSum 1 = .ok (.bipush 43, 2) := dk_16 43 (dk_at dksX7_behindSum_0 1 rfl rfl)
theorem dX7_behindSum_3 : decode cX7_behindSum 3 = .ok (.invokevirtual 330, 3) := dk_182 1 74 (dk_at dksX7_behindSum_0 3 rfl rfl)
theorem dX7_behindSum_6 : decode cX7_behindSum 6 = .ok (.ifCond .eq 8, 3) := dk_153 0 8 (dk_at dksX7_behindSum_0 6 rfl rfl)
theorem dX7_behindSum_9 : decode cX7_behindSum 9 = .ok (.bipush 20, 2) := dk_16 20 (dk_at dksX7_behindSum_0 9 rfl rfl)
theorem dX7_behindSum_11 : decode cX7_behindSum 11 = .ok (.goto 46, 3) := dk_167 0 46 (dk_at dksX7_behindSum_0 11 rfl rfl)
theorem dX7_behindSum_14 : decode cX7_behindSum 14 = .ok (.aload_n 0, 1) := dk_42 (dk_at dksX7_behindSum_0 14 rfl rfl)
theorem dX7_behindSum_15 : decode cX7_behindSum 15 = .ok (.bipush 45, 2) := dk_16 45 (dk_at dksX7_behindSum_0 15 rfl rfl)
theorem dX7_behindSum_17 : decode cX7_behindSum 17 = .ok (.invokevirtual 330, 3) := dk_182 1 74 (dk_at dksX7_behindSum_0 17 rfl rfl)
theorem dX7_behindSum_20 : decode cX7_behindSum 20 = .ok (.ifCond .eq 8, 3) := dk_153 0 8 (dk_at dksX7_behindSum_0 20 rfl rfl)
theorem dX7_behindSum_23 : decode cX7_behindSum 23 = .ok (.bipush 21, 2) := dk_16 21 (dk_at dksX7_behindSum_1 0 rfl rfl)
theorem dX7_behindSum_25 : decode cX7_behindSum 25 = .ok (.goto 32, 3) := dk_167 0 32 (dk_at dksX7_behindSum_1 2 rfl rfl)
theorem dX7_behindSum_28 : decode cX7_behindSum 28 = .ok (.aload_n 0, 1) := dk_42 (dk_at dksX7_behindSum_1 5 rfl rfl)
theorem dX7_behindSum_29 : decode cX7_behindSum 29 = .ok (.bipush 42, 2) := dk_16 42 (dk_at dksX7_behindSum_1 6 rfl rfl)
theorem dX7_behindSum_31 : decode cX7_behindSum 31 = .ok (.invokevirtual 330, 3) := dk_182 1 74 (dk_at dksX7_behindSum_1 8 rfl rfl)
theorem dX7_behindSum_34 : decode cX7_behindSum 34 = .ok (.ifCond .eq 8, 3) := dk_153 0 8 (dk_at dksX7_behindSum_1 11 rfl rfl)
theorem dX7_behindSum_37 : decode cX7_behindSum 37 = .ok (.bipush 22, 2) := dk_16 22 (dk_at dksX7_behindSum_1 14 rfl rfl)
theorem dX7_behindSum_39 : decode cX7_behindSum 39 = .ok (.goto 18, 3) := dk_167 0 18 (dk_at dksX7_behindSum_1 16 rfl rfl)
theorem dX7_behindSum_42 : decode cX7_behindSum 42 = .ok (.aload_n 0, 1) := dk_42 (dk_at dksX7_behindSum_1 19 rfl rfl)
theorem dX7_behindSum_43 : decode cX7_behindSum 43 = .ok (.bipush 47, 2) := dk_16 47 (dk_at dksX7_behindSum_1 20 rfl rfl)
theorem dX7_behindSum_45 : decode cX7_behindSum 45 = .ok (.invokevirtual 330, 3) := dk_182 1 74 (dk_at dksX7_behindSum_2 0 rfl rfl)
theorem dX7_behindSum_48 : decode cX7_behindSum 48 = .ok (.ifCond .eq 8, 3) := dk_153 0 8 (dk_at dksX7_behindSum_2 3 rfl rfl)
theorem dX7_behindSum_51 : decode cX7_behindSum 51 = .ok (.bipush 23, 2) := dk_16 23 (dk_at dksX7_behindSum_2 6 rfl rfl)
theorem dX7_behindSum_53 : decode cX7_behindSum 53 = .ok (.goto 4, 3) := dk_167 0 4 (dk_at dksX7_behindSum_2 8 rfl rfl)
theorem dX7_behindSum_56 : decode cX7_behindSum 56 = .ok (.iconst (-1), 1) := dk_2 (dk_at dksX7_behindSum_2 11 rfl rfl)
theorem dX7_behindSum_57 : decode cX7_behindSum 57 = .ok (.istore_n 2, 1) := dk_61 (dk_at dksX7_behindSum_2 12 rfl rfl)
theorem dX7_behindSum_58 : decode cX7_behindSum 58 = .ok (.iload_n 2, 1) := dk_28 (dk_at dksX7_behindSum_2 13 rfl rfl)
theorem dX7_behindSum_59 : decode cX7_behindSum 59 = .ok (.iconst (-1), 1) := dk_2 (dk_at dksX7_behindSum_2 14 rfl rfl)
theorem dX7_behindSum_60 : decode cX7_behindSum 60 = .ok (.if_icmp .eq 23, 3) := dk_159 0 23 (dk_at dksX7_behindSum_2 15 rfl rfl)
theorem dX7_behindSum_63 : decode cX7_behindSum 63 = .ok (.aload_n 0, 1) := dk_42 (dk_at dksX7_behindSum_2 18 rfl rfl)
theorem dX7_behindSum_64 : decode cX7_behindSum 64 = .ok (.iload_n 2, 1) := dk_28 (dk_at dksX7_behindSum_2 19 rfl rfl)
theorem dX7_behindSum_65 : decode cX7_behindSum 65 = .ok (.invokestatic 271, 3) := dk_184 1 15 (dk_at dksX7_behindSum_2 20 rfl rfl)
theorem dX7_behindSum_68 : decode cX7_behindSum 68 = .ok (.invokevirtual 354, 3) := dk_182 1 98 (dk_at dksX7_behindSum_3 0 rfl rfl)
theorem dX7_behindSum_71 : decode cX7_behindSum 71 = .ok (.aload_n 0, 1) := dk_42 (dk_at dksX7_behindSum_3 3 rfl rfl)
theorem dX7_behindSum_72 : decode cX7_behindSum 72 = .ok (.iload_n 2, 1) := dk_28 (dk_at dksX7_behindSum_3 4 rfl rfl)
theorem dX7_behindSum_73 : decode cX7_behindSum 73 = .ok (.iconst 0, 1) := dk_3 (dk_at dksX7_behindSum_3 5 rfl rfl)
theorem dX7_behindSum_74 : decode cX7_behindSum 74 = .ok (.invokevirtual 324, 3) := dk_182 1 68 (dk_at dksX7_behindSum_3 6 rfl rfl)
theorem dX7_behindSum_77 : decode cX7_behindSum 77 = .ok (.aload_n 0, 1) := dk_42 (dk_at dksX7_behindSum_3 9 rfl rfl)
theorem dX7_behindSum_78 : decode cX7_behindSum 78 = .ok (.invokevirtual 230, 3) := dk_182 0 230 (dk_at dksX7_behindSum_3 10 rfl rfl)
theorem dX7_behindSum_81 : decode cX7_behindSum 81 = .ok (.iconst 1, 1) := dk_4 (dk_at dksX7_behindSum_3 13 rfl rfl)
theorem dX7_behindSum_82 : decode cX7_behindSum 82 = .ok (.ireturn, 1) := dk_172 (dk_at dksX7_behindSum_3 14 rfl rfl)
theorem dX7_behindSum_83 : decode cX7_behindSum 83 = .ok (.aload_n 0, 1) := dk_42 (dk_at dksX7_behindSum_3 15 rfl rfl)
theorem dX7_behindSum_84 : decode cX7_behindSum 84 = .ok (.invokevirtual 357, 3) := dk_182 1 101 (dk_at dksX7_behindSum_3 16 rfl rfl)
theorem dX7_behindSum_87 : decode cX7_behindSum 87 = .ok (.istore_n 3, 1) := dk_62 (dk_at dksX7_behindSum_3 19 rfl rfl)
theorem dX7_behindSum_88 : decode cX7_behindSum 88 = .ok (.iload_n 3, 1) := dk_29 (dk_at dksX7_behindSum_3 20 rfl rfl)
theorem dX7_behindSum_89 : decode cX7_behindSum 89 = .ok (.bipush 31, 2) := dk_16 31 (dk_at dksX7_behindSum_3 21 rfl rfl)
theorem dX7_behindSum_91 : decode cX7_behindSum 91 = .ok (.if_icmp .ne 47, 3) := dk_160 0 47 (dk_at dksX7_behindSum_4 0 rfl rfl)
theorem dX7_behindSum_94 : decode cX7_behindSum 94 = .ok (.aload_n 0, 1) := dk_42 (dk_at dksX7_behindSum_4 3 rfl rfl)
theorem dX7_behindSum_95 : decode cX7_behindSum 95 = .ok (.aload_n 0, 1) := dk_42 (dk_at dksX7_behindSum_4 4 rfl rfl)
theorem dX7_behindSum_96 : decode cX7_behindSum 96 = .ok (.bipush 93, 2) := dk_16 93 (dk_at dksX7_behindSum_4 5 rfl rfl)
theorem dX7_behindSum_98 : decode cX7_behindSum 98 = .ok (.invokevirtual 330, 3) := dk_182 1 74 (dk_at dksX7_behindSum_4 7 rfl rfl)
theorem dX7_behindSum_101 : decode cX7_behindSum 101 = .ok (.invokevirtual 261, 3) := dk_182 1 5 (dk_at dksX7_behindSum_4 10 rfl rfl)
theorem dX7_behindSum_104 : decode cX7_behindSum 104 = .ok (.aload_n 0, 1) := dk_42 (dk_at dksX7_behindSum_4 13 rfl rfl)
theorem dX7_behindSum_105 : decode cX7_behindSum 105 = .ok (.getfield 226, 3) := dk_180 0 226 (dk_at dksX7_behindSum_4 14 rfl rfl)
theorem dX7_behindSum_108 : decode cX7_behindSum 108 = .ok (.ifCond .ne 28, 3) := dk_154 0 28 (dk_at dksX7_behindSum_4 17 rfl rfl)
theorem dX7_behindSum_111 : decode cX7_behindSum 111 = .ok (.aload_n 0, 1) := dk_42 (dk_at dksX7_behindSum_4 20 rfl rfl)
theorem dX7_behindSum_112 : decode cX7_behindSum 112 = .ok (.iconst 5, 1) := dk_8 (dk_at dksX7_behindSum_4 21 rfl rfl)
theorem dX7_behindSum_113 : decode cX7_behindSum 113 = .ok (.invokevirtual 354, 3) := dk_182 1 98 (dk_at dksX7_behindSum_5 0 rfl rfl)
theorem dX7_behindSum_116 : decode cX7_behindSum 116 = .ok (.aload_n 0, 1) := dk_42 (dk_at dksX7_behindSum_5 3 rfl rfl)
theorem dX7_behindSum_117 : decode cX7_behindSum 117 = .ok (.dup, 1) := dk_89 (dk_at dksX7_behindSum_5 4 rfl rfl)
theorem dX7_behindSum_118 : decode cX7_behindSum 118 = .ok (.getfield 268, 3) := dk_180 1 12 (dk_at dksX7_behindSum_5 5 rfl rfl)
theorem dX7_behindSum_121 : decode cX7_behindSum 121 = .ok (.iconst 1, 1) := dk_4 (dk_at dksX7_behindSum_5 8 rfl rfl)
theorem dX7_behindSum_122 : decode cX7_behindSum 122 = .ok (.isub, 1) := dk_100 (dk_at dksX7_behindSum_5 9 rfl rfl)
theorem dX7_behindSum_123 : decode cX7_behindSum 123 = .ok (.putfield 268, 3) := dk_181 1 12 (dk_at dksX7_behindSum_5 10 rfl rfl)
theorem dX7_behindSum_126 : decode cX7_behindSum 126 = .ok (.aload_n 0, 1) := dk_42 (dk_at dksX7_behindSum_5 13 rfl rfl)
theorem dX7_behindSum_127 : decode cX7_behindSum 127 = .ok (.dup, 1) := dk_89 (dk_at dksX7_behindSum_5 14 rfl rfl)
theorem dX7_behindSum_128 : decode cX7_behindSum 128 = .ok (.getfield 321, 3) := dk_180 1 65 (dk_at dksX7_behindSum_5 15 rfl rfl)
theorem dX7_behindSum_131 : decode cX7_behindSum 131 = .ok (.iconst 1, 1) := dk_4 (dk_at dksX7_behindSum_5 18 rfl rfl)
theorem dX7_behindSum_132 : decode cX7_behindSum 132 = .ok (.isub, 1) := dk_100 (dk_at dksX7_behindSum_5 19 rfl rfl)
theorem dX7_behindSum_133 : decode cX7_behindSum 133 = .ok (.putfield 321, 3) := dk_181 1 65 (dk_at dksX7_behindSum_5 20 rfl rfl)
theorem dX7_behindSum_136 : decode cX7_behindSum 136 = .ok (.iconst 3, 1) := dk_6 (dk_at dksX7_behindSum_5 23 rfl rfl)
theorem dX7_behindSum_137 : decode cX7_behindSum 137 = .ok (.ireturn, 1) := dk_172 (dk_at dksX7_behindSum_6 0 rfl rfl)
theorem dX7_behindSum_138 : decode cX7_behindSum 138 = .ok (.iload_n 3, 1) := dk_29 (dk_at dksX7_behindSum_6 1 rfl rfl)
theorem dX7_behindSum_139 : decode cX7_behindSum 139 = .ok (.iconst (-1), 1) := dk_2 (dk_at dksX7_behindSum_6 2 rfl rfl)
theorem dX7_behindSum_140 : decode cX7_behindSum 140 = .ok (.if_icmp .ne 9, 3) := dk_160 0 9 (dk_at dksX7_behindSum_6 3 rfl rfl)
theorem dX7_behindSum_143 : decode cX7_behindSum 143 = .ok (.iload_n 1, 1) := dk_27 (dk_at dksX7_behindSum_6 6 rfl rfl)
theorem dX7_behindSum_144 : decode cX7_behindSum 144 = .ok (.ifCond .ne 5, 3) := dk_154 0 5 (dk_at dksX7_behindSum_6 7 rfl rfl)
theorem dX7_behindSum_147 : decode cX7_behindSum 147 = .ok (.iconst 4, 1) := dk_7 (dk_at dksX7_behindSum_6 10 rfl rfl)
theorem dX7_behindSum_148 : decode cX7_behindSum 148 = .ok (.ireturn, 1) := dk_172 (dk_at dksX7_behindSum_6 11 rfl rfl)
theorem dX7_behindSum_149 : decode cX7_behindSum 149 = .ok (.aload_n 0, 1) := dk_42 (dk_at dksX7_behindSum_6 12 rfl rfl)
theorem dX7_behindSum_150 : decode cX7_behindSum 150 = .ok (.invokevirtual 360, 3) := dk_182 1 104 (dk_at dksX7_behindSum_6 13 rfl rfl)
theorem dX7_behindSum_153 : decode cX7_behindSum 153 = .ok (.ifCond .eq 5, 3) := dk_153 0 5 (dk_at dksX7_behindSum_6 16 rfl rfl)
theorem dX7_behindSum_156 : decode cX7_behindSum 156 = .ok (.iconst 2, 1) := dk_5 (dk_at dksX7_behindSum_6 19 rfl rfl)
theorem dX7_behindSum_157 : decode cX7_behindSum 157 = .ok (.ireturn, 1) := dk_172 (dk_at dksX7_behindSum_6 20 rfl rfl)
theorem dX7_behindSum_158 : decode cX7_behindSum 158 = .ok (.aload_n 0, 1) := dk_42 (dk_at dksX7_behindSum_6 21 rfl rfl)
theorem dX7_behindSum_159 : decode cX7_behindSum 159 = .ok (.bipush 60, 2) := dk_16 60 (dk_at dksX7_behindSum_6 22 rfl rfl)
theorem dX7_behindSum_161 : decode cX7_behindSum 161 = .ok (.invokevirtual 330, 3) := dk_182 1 74 (dk_at dksX7_behindSum_7 0 rfl rfl)
theorem dX7_behindSum_164 : decode cX7_behindSum 164 = .ok (.ifCond .eq 8, 3) := dk_153 0 8 (dk_at dksX7_behindSum_7 3 rfl rfl)
theorem dX7_behindSum_167 : decode cX7_behindSum 167 = .ok (.bipush 24, 2) := dk_16 24 (dk_at dksX7_behindSum_7 6 rfl rfl)
theorem dX7_behindSum_169 : decode cX7_behindSum 169 = .ok (.goto 19, 3) := dk_167 0 19 (dk_at dksX7_behindSum_7 8 rfl rfl)
theorem dX7_behindSum_172 : decode cX7_behindSum 172 = .ok (.aload_n 0, 1) := dk_42 (dk_at dksX7_behindSum_7 11 rfl rfl)
theorem dX7_behindSum_173 : decode cX7_behindSum 173 = .ok (.bipush 62, 2) := dk_16 62 (dk_at dksX7_behindSum_7 12 rfl rfl)
theorem dX7_behindSum_175 : decode cX7_behindSum 175 = .ok (.invokevirtual 330, 3) := dk_182 1 74 (dk_at dksX7_behindSum_7 14 rfl rfl)
theorem dX7_behindSum_178 : decode cX7_behindSum 178 = .ok (.ifCond .eq 8, 3) := dk_153 0 8 (dk_at dksX7_behindSum_7 17 rfl rfl)
theorem dX7_behindSum_181 : decode cX7_behindSum 181 = .ok (.bipush 25, 2) := dk_16 25 (dk_at dksX7_behindSum_7 20 rfl rfl)
theorem dX7_behindSum_183 : decode cX7_behindSum 183 = .ok (.goto 5, 3) := dk_167 0 5 (dk_at dksX7_behindSum_8 0 rfl rfl)
theorem dX7_behindSum_186 : decode cX7_behindSum 186 = .ok (.bipush 26, 2) := dk_16 26 (dk_at dksX7_behindSum_8 3 rfl rfl)
theorem dX7_behindSum_188 : decode cX7_behindSum 188 = .ok (.istore_n 2, 1) := dk_61 (dk_at dksX7_behindSum_8 5 rfl rfl)
theorem dX7_behindSum_189 : decode cX7_behindSum 189 = .ok (.aload_n 0, 1) := dk_42 (dk_at dksX7_behindSum_8 6 rfl rfl)
theorem dX7_behindSum_190 : decode cX7_behindSum 190 = .ok (.iload_n 2, 1) := dk_28 (dk_at dksX7_behindSum_8 7 rfl rfl)
theorem dX7_behindSum_191 : decode cX7_behindSum 191 = .ok (.bipush 26, 2) := dk_16 26 (dk_at dksX7_behindSum_8 8 rfl rfl)
theorem dX7_behindSum_193 : decode cX7_behindSum 193 = .ok (.if_icmp .ne 12, 3) := dk_160 0 12 (dk_at dksX7_behindSum_8 10 rfl rfl)
theorem dX7_behindSum_196 : decode cX7_behindSum 196 = .ok (.aload_n 0, 1) := dk_42 (dk_at dksX7_behindSum_8 13 rfl rfl)
theorem dX7_behindSum_197 : decode cX7_behindSum 197 = .ok (.bipush 61, 2) := dk_16 61 (dk_at dksX7_behindSum_8 14 rfl rfl)
theorem dX7_behindSum_199 : decode cX7_behindSum 199 = .ok (.invokevirtual 330, 3) := dk_182 1 74 (dk_at dksX7_behindSum_8 16 rfl rfl)
theorem dX7_behindSum_202 : decode cX7_behindSum 202 = .ok (.ifCond .eq 7, 3) := dk_153 0 7 (dk_at dksX7_behindSum_8 19 rfl rfl)
theorem dX7_behindSum_205 : decode cX7_behindSum 205 = .ok (.iconst 1, 1) := dk_4 (dk_at dksX7_behindSum_8 22 rfl rfl)
theorem dX7_behindSum_206 : decode cX7_behindSum 206 = .ok (.goto 4, 3) := dk_167 0 4 (dk_at dksX7_behindSum_9 0 rfl rfl)
theorem dX7_behindSum_209 : decode cX7_behindSum 209 = .ok (.iconst 0, 1) := dk_3 (dk_at dksX7_behindSum_9 3 rfl rfl)
theorem dX7_behindSum_210 : decode cX7_behindSum 210 = .ok (.invokevirtual 261, 3) := dk_182 1 5 (dk_at dksX7_behindSum_9 4 rfl rfl)
theorem dX7_behindSum_213 : decode cX7_behindSum 213 = .ok (.aload_n 0, 1) := dk_42 (dk_at dksX7_behindSum_9 7 rfl rfl)
theorem dX7_behindSum_214 : decode cX7_behindSum 214 = .ok (.getfield 226, 3) := dk_180 0 226 (dk_at dksX7_behindSum_9 8 rfl rfl)
theorem dX7_behindSum_217 : decode cX7_behindSum 217 = .ok (.ifCond .ne 14, 3) := dk_154 0 14 (dk_at dksX7_behindSum_9 11 rfl rfl)
theorem dX7_behindSum_220 : decode cX7_behindSum 220 = .ok (.aload_n 0, 1) := dk_42 (dk_at dksX7_behindSum_9 14 rfl rfl)
theorem dX7_behindSum_221 : decode cX7_behindSum 221 = .ok (.iconst 5, 1) := dk_8 (dk_at dksX7_behindSum_9 15 rfl rfl)
theorem dX7_behindSum_222 : decode cX7_behindSum 222 = .ok (.invokevirtual 354, 3) := dk_182 1 98 (dk_at dksX7_behindSum_9 16 rfl rfl)
theorem dX7_behindSum_225 : decode cX7_behindSum 225 = .ok (.aload_n 0, 1) := dk_42 (dk_at dksX7_behindSum_9 19 rfl rfl)
theorem dX7_behindSum_226 : decode cX7_behindSum 226 = .ok (.iload_n 2, 1) := dk_28 (dk_at dksX7_behindSum_9 20 rfl rfl)
theorem dX7_behindSum_227 : decode cX7_behindSum 227 = .ok (.iconst 0, 1) := dk_3 (dk_at dksX7_behindSum_9 21 rfl rfl)
theorem dX7_behindSum_228 : decode cX7_behindSum 228 = .ok (.invokevirtual 324, 3) := dk_182 1 68 (dk_at dksX7_behindSum_10 0 rfl rfl)
theorem dX7_behindSum_231 : decode cX7_behindSum 231 = .ok (.iconst 1, 1) := dk_4 (dk_at dksX7_behindSum_10 3 rfl rfl)
theorem dX7_behindSum_232 : decode cX7_behindSum 232 = .ok (.ireturn, 1) := dk_172 (dk_at dksX7_behindSum_10 4 rfl rfl)
def dkwX7_binds_2 : List UInt8 := [167, 0, 15, 26, 16, 22, 161, 0, 8, 16, 6, 167, 0, 4, 8, 172]
abbrev dktX7_binds_2 : List UInt8 := dkwX7_binds_2 ++ []
def dkwX7_binds_1 : List UInt8 := [160, 0, 7, 5, 167, 0, 35, 26, 16, 27, 160, 0, 7, 6, 167, 0, 25, 26, 16, 24, 161, 0, 7, 7]
abbrev dktX7_binds_1 : List UInt8 := dkwX7_binds_1 ++ dktX7_binds_2
def dkwX7_binds_0 : List UInt8 := [26, 16, 30, 161, 0, 7, 3, 167, 0, 55, 26, 16, 29, 160, 0, 7, 4, 167, 0, 45, 26, 16, 28]
abbrev dktX7_binds_0 : List UInt8 := dkwX7_binds_0 ++ dktX7_binds_1
theorem dksX7_binds_0 : cX7_binds.data.toList.drop 0 = dktX7_binds_0 := by decide +kernel
theorem dksX7_binds_1 : cX7_binds.data.toList.drop 23 = dktX7_binds_1 := dk_seg dksX7_binds_0 23 rfl rfl
theorem dksX7_binds_2 : cX7_binds.data.toList.drop 47 = dktX7_binds_2 := dk_seg dksX7_binds_1 24 rfl rfl
theorem dX7_binds_0 : decode cX7_binds 0 = .ok (.iload_n 0, 1) := dk_26 (dk_at dksX7_binds_0 0 rfl rfl)
theorem dX7_binds_1 : decode cX7_binds 1 = .ok (.bipush 30, 2) := dk_16 30 (dk_at dksX7_binds_0 1 rfl rfl)
theorem dX7_binds_3 : decode cX7_binds 3 = .ok (.if_icmp .lt 7, 3) := dk_161 0 7 (dk_at dksX7_binds_0 3 rfl rfl)
theorem dX7_binds_6 : decode cX7_binds 6 = .ok (.iconst 0, 1) := dk_3 (dk_at dksX7_binds_0 6 rfl rfl)
theorem dX7_binds_7 : decode cX7_binds 7 = .ok (.goto 55, 3) := dk_167 0 55 (dk_at dksX7_binds_0 7 rfl rfl)
theorem dX7_binds_10 : decode cX7_binds 10 = .ok (.iload_n 0, 1) := dk_26 (dk_at dksX7_binds_0 10 rfl rfl)
theorem dX7_binds_11 : decode cX7_binds 11 = .ok (.bipush 29, 2) := dk_16 29 (dk_at dksX7_binds_0 11 rfl rfl)
theorem dX7_binds_13 : decode cX7_binds 13 = .ok (.if_icmp .ne 7, 3) := dk_160 0 7 (dk_at dksX7_binds_0 13 rfl rfl)
theorem dX7_binds_16 : decode cX7_binds 16 = .ok (.iconst 1, 1) := dk_4 (dk_at dksX7_binds_0 16 rfl rfl)
theorem dX7_binds_17 : decode cX7_binds 17 = .ok (.goto 45, 3) := dk_167 0 45 (dk_at dksX7_binds_0 17 rfl rfl)
theorem dX7_binds_20 : decode cX7_binds 20 = .ok (.iload_n 0, 1) := dk_26 (dk_at dksX7_binds_0 20 rfl rfl)
theorem dX7_binds_21 : decode cX7_binds 21 = .ok (.bipush 28, 2) := dk_16 28 (dk_at dksX7_binds_0 21 rfl rfl)
theorem dX7_binds_23 : decode cX7_binds 23 = .ok (.if_icmp .ne 7, 3) := dk_160 0 7 (dk_at dksX7_binds_1 0 rfl rfl)
theorem dX7_binds_26 : decode cX7_binds 26 = .ok (.iconst 2, 1) := dk_5 (dk_at dksX7_binds_1 3 rfl rfl)
theorem dX7_binds_27 : decode cX7_binds 27 = .ok (.goto 35, 3) := dk_167 0 35 (dk_at dksX7_binds_1 4 rfl rfl)
theorem dX7_binds_30 : decode cX7_binds 30 = .ok (.iload_n 0, 1) := dk_26 (dk_at dksX7_binds_1 7 rfl rfl)
theorem dX7_binds_31 : decode cX7_binds 31 = .ok (.bipush 27, 2) := dk_16 27 (dk_at dksX7_binds_1 8 rfl rfl)
theorem dX7_binds_33 : decode cX7_binds 33 = .ok (.if_icmp .ne 7, 3) := dk_160 0 7 (dk_at dksX7_binds_1 10 rfl rfl)
theorem dX7_binds_36 : decode cX7_binds 36 = .ok (.iconst 3, 1) := dk_6 (dk_at dksX7_binds_1 13 rfl rfl)
theorem dX7_binds_37 : decode cX7_binds 37 = .ok (.goto 25, 3) := dk_167 0 25 (dk_at dksX7_binds_1 14 rfl rfl)
theorem dX7_binds_40 : decode cX7_binds 40 = .ok (.iload_n 0, 1) := dk_26 (dk_at dksX7_binds_1 17 rfl rfl)
theorem dX7_binds_41 : decode cX7_binds 41 = .ok (.bipush 24, 2) := dk_16 24 (dk_at dksX7_binds_1 18 rfl rfl)
theorem dX7_binds_43 : decode cX7_binds 43 = .ok (.if_icmp .lt 7, 3) := dk_161 0 7 (dk_at dksX7_binds_1 20 rfl rfl)
theorem dX7_binds_46 : decode cX7_binds 46 = .ok (.iconst 4, 1) := dk_7 (dk_at dksX7_binds_1 23 rfl rfl)
theorem dX7_binds_47 : decode cX7_binds 47 = .ok (.goto 15, 3) := dk_167 0 15 (dk_at dksX7_binds_2 0 rfl rfl)
theorem dX7_binds_50 : decode cX7_binds 50 = .ok (.iload_n 0, 1) := dk_26 (dk_at dksX7_binds_2 3 rfl rfl)
theorem dX7_binds_51 : decode cX7_binds 51 = .ok (.bipush 22, 2) := dk_16 22 (dk_at dksX7_binds_2 4 rfl rfl)
theorem dX7_binds_53 : decode cX7_binds 53 = .ok (.if_icmp .lt 8, 3) := dk_161 0 8 (dk_at dksX7_binds_2 6 rfl rfl)
theorem dX7_binds_56 : decode cX7_binds 56 = .ok (.bipush 6, 2) := dk_16 6 (dk_at dksX7_binds_2 9 rfl rfl)
theorem dX7_binds_58 : decode cX7_binds 58 = .ok (.goto 4, 3) := dk_167 0 4 (dk_at dksX7_binds_2 11 rfl rfl)
theorem dX7_binds_61 : decode cX7_binds 61 = .ok (.iconst 5, 1) := dk_8 (dk_at dksX7_binds_2 14 rfl rfl)
theorem dX7_binds_62 : decode cX7_binds 62 = .ok (.ireturn, 1) := dk_172 (dk_at dksX7_binds_2 15 rfl rfl)
def dkwX7_settle_4 : List UInt8 := [180, 1, 12, 46, 3, 182, 1, 18, 167, 255, 158, 177]
abbrev dktX7_settle_4 : List UInt8 := dkwX7_settle_4 ++ []
def dkwX7_settle_3 : List UInt8 := [180, 0, 46, 42, 180, 1, 12, 46, 42, 180, 1, 9, 79, 167, 255, 175, 42, 42, 180, 0, 43, 42]
abbrev dktX7_settle_3 : List UInt8 := dkwX7_settle_3 ++ dktX7_settle_4
def dkwX7_settle_2 : List UInt8 := [159, 0, 17, 42, 180, 0, 43, 42, 180, 1, 12, 46, 16, 29, 160, 0, 24, 42, 180, 0, 40, 42]
abbrev dktX7_settle_2 : List UInt8 := dkwX7_settle_2 ++ dktX7_settle_3
def dkwX7_settle_1 : List UInt8 := [161, 0, 79, 42, 89, 180, 1, 12, 4, 100, 181, 1, 12, 42, 180, 0, 43, 42, 180, 1, 12, 46, 16, 28]
abbrev dktX7_settle_1 : List UInt8 := dkwX7_settle_1 ++ dktX7_settle_2
def dkwX7_settle_0 : List UInt8 := [42, 180, 1, 12, 158, 0, 97, 42, 180, 0, 43, 42, 180, 1, 12, 4, 100, 46, 184, 1, 15, 27]
abbrev dktX7_settle_0 : List UInt8 := dkwX7_settle_0 ++ dktX7_settle_1
theorem dksX7_settle_0 : cX7_settle.data.toList.drop 0 = dktX7_settle_0 := by decide +kernel
theorem dksX7_settle_1 : cX7_settle.data.toList.drop 22 = dktX7_settle_1 := dk_seg dksX7_settle_0 22 rfl rfl
theorem dksX7_settle_2 : cX7_settle.data.toList.drop 46 = dktX7_settle_2 := dk_seg dksX7_settle_1 24 rfl rfl
theorem dksX7_settle_3 : cX7_settle.data.toList.drop 68 = dktX7_settle_3 := dk_seg dksX7_settle_2 22 rfl rfl
theorem dksX7_settle_4 : cX7_settle.data.toList.drop 90 = dktX7_settle_4 := dk_seg dksX7_settle_3 22 rfl rfl
theorem dX7_settle_0 : decode cX7_settle 0 = .ok (.aload_n 0, 1) := dk_42 (dk_at dksX7_settle_0 0 rfl rfl)
theorem dX7_settle_1 : decode cX7_settle 1 = .ok (.getfield 268, 3) := dk_180 1 12 (dk_at dksX7_settle_0 1 rfl rfl)
theorem dX7_settle_4 : decode cX7_settle 4 = .ok (.ifCond .le 97, 3) := dk_158 0 97 (dk_at dksX7_settle_0 4 rfl rfl)
theorem dX7_settle_7 : decode cX7_settle 7 = .ok (.aload_n 0, 1) := dk_42 (dk_at dksX7_settle_0 7 rfl rfl)
theorem dX7_settle_8 : decode cX7_settle 8 = .ok (.getfield 43, 3) := dk_180 0 43 (dk_at dksX7_settle_0 8 rfl rfl)
theorem dX7_settle_11 : decode cX7_settle 11 = .ok (.aload_n 0, 1) := dk_42 (dk_at dksX7_settle_0 11 rfl rfl)
theorem dX7_settle_12 : decode cX7_settle 12 = .ok (.getfield 268, 3) := dk_180 1 12 (dk_at dksX7_settle_0 12 rfl rfl)
theorem dX7_settle_15 : decode cX7_settle 15 = .ok (.iconst 1, 1) := dk_4 (dk_at dksX7_settle_0 15 rfl rfl)
theorem dX7_settle_16 : decode cX7_settle 16 = .ok (.isub, 1) := dk_100 (dk_at dksX7_settle_0 16 rfl rfl)
theorem dX7_settle_17 : decode cX7_settle 17 = .ok (.iaload, 1) := dk_46 (dk_at dksX7_settle_0 17 rfl rfl)
theorem dX7_settle_18 : decode cX7_settle 18 = .ok (.invokestatic 271, 3) := dk_184 1 15 (dk_at dksX7_settle_0 18 rfl rfl)
theorem dX7_settle_21 : decode cX7_settle 21 = .ok (.iload_n 1, 1) := dk_27 (dk_at dksX7_settle_0 21 rfl rfl)
theorem dX7_settle_22 : decode cX7_settle 22 = .ok (.if_icmp .lt 79, 3) := dk_161 0 79 (dk_at dksX7_settle_1 0 rfl rfl)
theorem dX7_settle_25 : decode cX7_settle 25 = .ok (.aload_n 0, 1) := dk_42 (dk_at dksX7_settle_1 3 rfl rfl)
theorem dX7_settle_26 : decode cX7_settle 26 = .ok (.dup, 1) := dk_89 (dk_at dksX7_settle_1 4 rfl rfl)
theorem dX7_settle_27 : decode cX7_settle 27 = .ok (.getfield 268, 3) := dk_180 1 12 (dk_at dksX7_settle_1 5 rfl rfl)
theorem dX7_settle_30 : decode cX7_settle 30 = .ok (.iconst 1, 1) := dk_4 (dk_at dksX7_settle_1 8 rfl rfl)
theorem dX7_settle_31 : decode cX7_settle 31 = .ok (.isub, 1) := dk_100 (dk_at dksX7_settle_1 9 rfl rfl)
theorem dX7_settle_32 : decode cX7_settle 32 = .ok (.putfield 268, 3) := dk_181 1 12 (dk_at dksX7_settle_1 10 rfl rfl)
theorem dX7_settle_35 : decode cX7_settle 35 = .ok (.aload_n 0, 1) := dk_42 (dk_at dksX7_settle_1 13 rfl rfl)
theorem dX7_settle_36 : decode cX7_settle 36 = .ok (.getfield 43, 3) := dk_180 0 43 (dk_at dksX7_settle_1 14 rfl rfl)
theorem dX7_settle_39 : decode cX7_settle 39 = .ok (.aload_n 0, 1) := dk_42 (dk_at dksX7_settle_1 17 rfl rfl)
theorem dX7_settle_40 : decode cX7_settle 40 = .ok (.getfield 268, 3) := dk_180 1 12 (dk_at dksX7_settle_1 18 rfl rfl)
theorem dX7_settle_43 : decode cX7_settle 43 = .ok (.iaload, 1) := dk_46 (dk_at dksX7_settle_1 21 rfl rfl)
theorem dX7_settle_44 : decode cX7_settle 44 = .ok (.bipush 28, 2) := dk_16 28 (dk_at dksX7_settle_1 22 rfl rfl)
theorem dX7_settle_46 : decode cX7_settle 46 = .ok (.if_icmp .eq 17, 3) := dk_159 0 17 (dk_at dksX7_settle_2 0 rfl rfl)
theorem dX7_settle_49 : decode cX7_settle 49 = .ok (.aload_n 0, 1) := dk_42 (dk_at dksX7_settle_2 3 rfl rfl)
theorem dX7_settle_50 : decode cX7_settle 50 = .ok (.getfield 43, 3) := dk_180 0 43 (dk_at dksX7_settle_2 4 rfl rfl)
theorem dX7_settle_53 : decode cX7_settle 53 = .ok (.aload_n 0, 1) := dk_42 (dk_at dksX7_settle_2 7 rfl rfl)
theorem dX7_settle_54 : decode cX7_settle 54 = .ok (.getfield 268, 3) := dk_180 1 12 (dk_at dksX7_settle_2 8 rfl rfl)
theorem dX7_settle_57 : decode cX7_settle 57 = .ok (.iaload, 1) := dk_46 (dk_at dksX7_settle_2 11 rfl rfl)
theorem dX7_settle_58 : decode cX7_settle 58 = .ok (.bipush 29, 2) := dk_16 29 (dk_at dksX7_settle_2 12 rfl rfl)
theorem dX7_settle_60 : decode cX7_settle 60 = .ok (.if_icmp .ne 24, 3) := dk_160 0 24 (dk_at dksX7_settle_2 14 rfl rfl)
theorem dX7_settle_63 : decode cX7_settle 63 = .ok (.aload_n 0, 1) := dk_42 (dk_at dksX7_settle_2 17 rfl rfl)
theorem dX7_settle_64 : decode cX7_settle 64 = .ok (.getfield 40, 3) := dk_180 0 40 (dk_at dksX7_settle_2 18 rfl rfl)
theorem dX7_settle_67 : decode cX7_settle 67 = .ok (.aload_n 0, 1) := dk_42 (dk_at dksX7_settle_2 21 rfl rfl)
theorem dX7_settle_68 : decode cX7_settle 68 = .ok (.getfield 46, 3) := dk_180 0 46 (dk_at dksX7_settle_3 0 rfl rfl)
theorem dX7_settle_71 : decode cX7_settle 71 = .ok (.aload_n 0, 1) := dk_42 (dk_at dksX7_settle_3 3 rfl rfl)
theorem dX7_settle_72 : decode cX7_settle 72 = .ok (.getfield 268, 3) := dk_180 1 12 (dk_at dksX7_settle_3 4 rfl rfl)
theorem dX7_settle_75 : decode cX7_settle 75 = .ok (.iaload, 1) := dk_46 (dk_at dksX7_settle_3 7 rfl rfl)
theorem dX7_settle_76 : decode cX7_settle 76 = .ok (.aload_n 0, 1) := dk_42 (dk_at dksX7_settle_3 8 rfl rfl)
theorem dX7_settle_77 : decode cX7_settle 77 = .ok (.getfield 265, 3) := dk_180 1 9 (dk_at dksX7_settle_3 9 rfl rfl)
theorem dX7_settle_80 : decode cX7_settle 80 = .ok (.iastore, 1) := dk_79 (dk_at dksX7_settle_3 12 rfl rfl)
theorem dX7_settle_81 : decode cX7_settle 81 = .ok (.goto (-81), 3) := dk_167 255 175 (dk_at dksX7_settle_3 13 rfl rfl)
theorem dX7_settle_84 : decode cX7_settle 84 = .ok (.aload_n 0, 1) := dk_42 (dk_at dksX7_settle_3 16 rfl rfl)
theorem dX7_settle_85 : decode cX7_settle 85 = .ok (.aload_n 0, 1) := dk_42 (dk_at dksX7_settle_3 17 rfl rfl)
theorem dX7_settle_86 : decode cX7_settle 86 = .ok (.getfield 43, 3) := dk_180 0 43 (dk_at dksX7_settle_3 18 rfl rfl)
theorem dX7_settle_89 : decode cX7_settle 89 = .ok (.aload_n 0, 1) := dk_42 (dk_at dksX7_settle_3 21 rfl rfl)
theorem dX7_settle_90 : decode cX7_settle 90 = .ok (.getfield 268, 3) := dk_180 1 12 (dk_at dksX7_settle_4 0 rfl rfl)
theorem dX7_settle_93 : decode cX7_settle 93 = .ok (.iaload, 1) := dk_46 (dk_at dksX7_settle_4 3 rfl rfl)
theorem dX7_settle_94 : decode cX7_settle 94 = .ok (.iconst 0, 1) := dk_3 (dk_at dksX7_settle_4 4 rfl rfl)
theorem dX7_settle_95 : decode cX7_settle 95 = .ok (.invokevirtual 274, 3) := dk_182 1 18 (dk_at dksX7_settle_4 5 rfl rfl)
theorem dX7_settle_98 : decode cX7_settle 98 = .ok (.goto (-98), 3) := dk_167 255 158 (dk_at dksX7_settle_4 8 rfl rfl)
theorem dX7_settle_101 : decode cX7_settle 101 = .ok (.return_, 1) := dk_177 (dk_at dksX7_settle_4 11 rfl rfl)
def dkwX7_inner_1 : List UInt8 := [180, 0, 43, 28, 46, 167, 0, 4, 27, 60, 132, 2, 1, 167, 255, 223, 27, 172]
abbrev dktX7_inner_1 : List UInt8 := dkwX7_inner_1 ++ []
def dkwX7_inner_0 : List UInt8 := [2, 60, 3, 61, 28, 42, 180, 1, 12, 162, 0, 31, 42, 180, 0, 43, 28, 46, 16, 30, 161, 0, 12, 42]
abbrev dktX7_inner_0 : List UInt8 := dkwX7_inner_0 ++ dktX7_inner_1
theorem dksX7_inner_0 : cX7_inner.data.toList.drop 0 = dktX7_inner_0 := by decide +kernel
theorem dksX7_inner_1 : cX7_inner.data.toList.drop 24 = dktX7_inner_1 := dk_seg dksX7_inner_0 24 rfl rfl
theorem dX7_inner_0 : decode cX7_inner 0 = .ok (.iconst (-1), 1) := dk_2 (dk_at dksX7_inner_0 0 rfl rfl)
theorem dX7_inner_1 : decode cX7_inner 1 = .ok (.istore_n 1, 1) := dk_60 (dk_at dksX7_inner_0 1 rfl rfl)
theorem dX7_inner_2 : decode cX7_inner 2 = .ok (.iconst 0, 1) := dk_3 (dk_at dksX7_inner_0 2 rfl rfl)
theorem dX7_inner_3 : decode cX7_inner 3 = .ok (.istore_n 2, 1) := dk_61 (dk_at dksX7_inner_0 3 rfl rfl)
theorem dX7_inner_4 : decode cX7_inner 4 = .ok (.iload_n 2, 1) := dk_28 (dk_at dksX7_inner_0 4 rfl rfl)
theorem dX7_inner_5 : decode cX7_inner 5 = .ok (.aload_n 0, 1) := dk_42 (dk_at dksX7_inner_0 5 rfl rfl)
theorem dX7_inner_6 : decode cX7_inner 6 = .ok (.getfield 268, 3) := dk_180 1 12 (dk_at dksX7_inner_0 6 rfl rfl)
theorem dX7_inner_9 : decode cX7_inner 9 = .ok (.if_icmp .ge 31, 3) := dk_162 0 31 (dk_at dksX7_inner_0 9 rfl rfl)
theorem dX7_inner_12 : decode cX7_inner 12 = .ok (.aload_n 0, 1) := dk_42 (dk_at dksX7_inner_0 12 rfl rfl)
theorem dX7_inner_13 : decode cX7_inner 13 = .ok (.getfield 43, 3) := dk_180 0 43 (dk_at dksX7_inner_0 13 rfl rfl)
theorem dX7_inner_16 : decode cX7_inner 16 = .ok (.iload_n 2, 1) := dk_28 (dk_at dksX7_inner_0 16 rfl rfl)
theorem dX7_inner_17 : decode cX7_inner 17 = .ok (.iaload, 1) := dk_46 (dk_at dksX7_inner_0 17 rfl rfl)
theorem dX7_inner_18 : decode cX7_inner 18 = .ok (.bipush 30, 2) := dk_16 30 (dk_at dksX7_inner_0 18 rfl rfl)
theorem dX7_inner_20 : decode cX7_inner 20 = .ok (.if_icmp .lt 12, 3) := dk_161 0 12 (dk_at dksX7_inner_0 20 rfl rfl)
theorem dX7_inner_23 : decode cX7_inner 23 = .ok (.aload_n 0, 1) := dk_42 (dk_at dksX7_inner_0 23 rfl rfl)
theorem dX7_inner_24 : decode cX7_inner 24 = .ok (.getfield 43, 3) := dk_180 0 43 (dk_at dksX7_inner_1 0 rfl rfl)
theorem dX7_inner_27 : decode cX7_inner 27 = .ok (.iload_n 2, 1) := dk_28 (dk_at dksX7_inner_1 3 rfl rfl)
theorem dX7_inner_28 : decode cX7_inner 28 = .ok (.iaload, 1) := dk_46 (dk_at dksX7_inner_1 4 rfl rfl)
theorem dX7_inner_29 : decode cX7_inner 29 = .ok (.goto 4, 3) := dk_167 0 4 (dk_at dksX7_inner_1 5 rfl rfl)
theorem dX7_inner_32 : decode cX7_inner 32 = .ok (.iload_n 1, 1) := dk_27 (dk_at dksX7_inner_1 8 rfl rfl)
theorem dX7_inner_33 : decode cX7_inner 33 = .ok (.istore_n 1, 1) := dk_60 (dk_at dksX7_inner_1 9 rfl rfl)
theorem dX7_inner_34 : decode cX7_inner 34 = .ok (.iinc 2 1, 3) := dk_132 2 1 (dk_at dksX7_inner_1 10 rfl rfl)
theorem dX7_inner_37 : decode cX7_inner 37 = .ok (.goto (-33), 3) := dk_167 255 223 (dk_at dksX7_inner_1 13 rfl rfl)
theorem dX7_inner_40 : decode cX7_inner 40 = .ok (.iload_n 1, 1) := dk_27 (dk_at dksX7_inner_1 16 rfl rfl)
theorem dX7_inner_41 : decode cX7_inner 41 = .ok (.ireturn, 1) := dk_172 (dk_at dksX7_inner_1 17 rfl rfl)
def dkwX7_isCompared_2 : List UInt8 := [20, 1, 25, 20, 1, 27, 184, 0, 121, 153, 0, 7, 4, 167, 0, 4, 3, 172]
abbrev dktX7_isCompared_2 : List UInt8 := dkwX7_isCompared_2 ++ []
def dkwX7_isCompared_1 : List UInt8 := [184, 0, 121, 153, 0, 9, 132, 1, 255, 167, 255, 230, 27, 155, 0, 26, 42, 180, 0, 43, 27, 46, 133]
abbrev dktX7_isCompared_1 : List UInt8 := dkwX7_isCompared_1 ++ dktX7_isCompared_2
def dkwX7_isCompared_0 : List UInt8 := [42, 180, 1, 12, 4, 100, 60, 27, 155, 0, 28, 42, 180, 0, 43, 27, 46, 133, 20, 1, 21, 20, 1, 23]
abbrev dktX7_isCompared_0 : List UInt8 := dkwX7_isCompared_0 ++ dktX7_isCompared_1
theorem dksX7_isCompared_0 : cX7_isCompared.data.toList.drop 0 = dktX7_isCompared_0 := by decide +kernel
theorem dksX7_isCompared_1 : cX7_isCompared.data.toList.drop 24 = dktX7_isCompared_1 := dk_seg dksX7_isCompared_0 24 rfl rfl
theorem dksX7_isCompared_2 : cX7_isCompared.data.toList.drop 47 = dktX7_isCompared_2 := dk_seg dksX7_isCompared_1 23 rfl rfl
theorem dX7_isCompared_0 : decode cX7_isCompared 0 = .ok (.aload_n 0, 1) := dk_42 (dk_at dksX7_isCompared_0 0 rfl rfl)
theorem dX7_isCompared_1 : decode cX7_isCompared 1 = .ok (.getfield 268, 3) := dk_180 1 12 (dk_at dksX7_isCompared_0 1 rfl rfl)
theorem dX7_isCompared_4 : decode cX7_isCompared 4 = .ok (.iconst 1, 1) := dk_4 (dk_at dksX7_isCompared_0 4 rfl rfl)
theorem dX7_isCompared_5 : decode cX7_isCompared 5 = .ok (.isub, 1) := dk_100 (dk_at dksX7_isCompared_0 5 rfl rfl)
theorem dX7_isCompared_6 : decode cX7_isCompared 6 = .ok (.istore_n 1, 1) := dk_60 (dk_at dksX7_isCompared_0 6 rfl rfl)
theorem dX7_isCompared_7 : decode cX7_isCompared 7 = .ok (.iload_n 1, 1) := dk_27 (dk_at dksX7_isCompared_0 7 rfl rfl)
theorem dX7_isCompared_8 : decode cX7_isCompared 8 = .ok (.ifCond .lt 28, 3) := dk_155 0 28 (dk_at dksX7_isCompared_0 8 rfl rfl)
theorem dX7_isCompared_11 : decode cX7_isCompared 11 = .ok (.aload_n 0, 1) := dk_42 (dk_at dksX7_isCompared_0 11 rfl rfl)
theorem dX7_isCompared_12 : decode cX7_isCompared 12 = .ok (.getfield 43, 3) := dk_180 0 43 (dk_at dksX7_isCompared_0 12 rfl rfl)
theorem dX7_isCompared_15 : decode cX7_isCompared 15 = .ok (.iload_n 1, 1) := dk_27 (dk_at dksX7_isCompared_0 15 rfl rfl)
theorem dX7_isCompared_16 : decode cX7_isCompared 16 = .ok (.iaload, 1) := dk_46 (dk_at dksX7_isCompared_0 16 rfl rfl)
theorem dX7_isCompared_17 : decode cX7_isCompared 17 = .ok (.i2l, 1) := dk_133 (dk_at dksX7_isCompared_0 17 rfl rfl)
theorem dX7_isCompared_18 : decode cX7_isCompared 18 = .ok (.ldc2_w 277, 3) := dk_20 1 21 (dk_at dksX7_isCompared_0 18 rfl rfl)
theorem dX7_isCompared_21 : decode cX7_isCompared 21 = .ok (.ldc2_w 279, 3) := dk_20 1 23 (dk_at dksX7_isCompared_0 21 rfl rfl)
theorem dX7_isCompared_24 : decode cX7_isCompared 24 = .ok (.invokestatic 121, 3) := dk_184 0 121 (dk_at dksX7_isCompared_1 0 rfl rfl)
theorem dX7_isCompared_27 : decode cX7_isCompared 27 = .ok (.ifCond .eq 9, 3) := dk_153 0 9 (dk_at dksX7_isCompared_1 3 rfl rfl)
theorem dX7_isCompared_30 : decode cX7_isCompared 30 = .ok (.iinc 1 (-1), 3) := dk_132 1 255 (dk_at dksX7_isCompared_1 6 rfl rfl)
theorem dX7_isCompared_33 : decode cX7_isCompared 33 = .ok (.goto (-26), 3) := dk_167 255 230 (dk_at dksX7_isCompared_1 9 rfl rfl)
theorem dX7_isCompared_36 : decode cX7_isCompared 36 = .ok (.iload_n 1, 1) := dk_27 (dk_at dksX7_isCompared_1 12 rfl rfl)
theorem dX7_isCompared_37 : decode cX7_isCompared 37 = .ok (.ifCond .lt 26, 3) := dk_155 0 26 (dk_at dksX7_isCompared_1 13 rfl rfl)
theorem dX7_isCompared_40 : decode cX7_isCompared 40 = .ok (.aload_n 0, 1) := dk_42 (dk_at dksX7_isCompared_1 16 rfl rfl)
theorem dX7_isCompared_41 : decode cX7_isCompared 41 = .ok (.getfield 43, 3) := dk_180 0 43 (dk_at dksX7_isCompared_1 17 rfl rfl)
theorem dX7_isCompared_44 : decode cX7_isCompared 44 = .ok (.iload_n 1, 1) := dk_27 (dk_at dksX7_isCompared_1 20 rfl rfl)
theorem dX7_isCompared_45 : decode cX7_isCompared 45 = .ok (.iaload, 1) := dk_46 (dk_at dksX7_isCompared_1 21 rfl rfl)
theorem dX7_isCompared_46 : decode cX7_isCompared 46 = .ok (.i2l, 1) := dk_133 (dk_at dksX7_isCompared_1 22 rfl rfl)
theorem dX7_isCompared_47 : decode cX7_isCompared 47 = .ok (.ldc2_w 281, 3) := dk_20 1 25 (dk_at dksX7_isCompared_2 0 rfl rfl)
theorem dX7_isCompared_50 : decode cX7_isCompared 50 = .ok (.ldc2_w 283, 3) := dk_20 1 27 (dk_at dksX7_isCompared_2 3 rfl rfl)
theorem dX7_isCompared_53 : decode cX7_isCompared 53 = .ok (.invokestatic 121, 3) := dk_184 0 121 (dk_at dksX7_isCompared_2 6 rfl rfl)
theorem dX7_isCompared_56 : decode cX7_isCompared 56 = .ok (.ifCond .eq 7, 3) := dk_153 0 7 (dk_at dksX7_isCompared_2 9 rfl rfl)
theorem dX7_isCompared_59 : decode cX7_isCompared 59 = .ok (.iconst 1, 1) := dk_4 (dk_at dksX7_isCompared_2 12 rfl rfl)
theorem dX7_isCompared_60 : decode cX7_isCompared 60 = .ok (.goto 4, 3) := dk_167 0 4 (dk_at dksX7_isCompared_2 13 rfl rfl)
theorem dX7_isCompared_63 : decode cX7_isCompared 63 = .ok (.iconst 0, 1) := dk_3 (dk_at dksX7_isCompared_2 16 rfl rfl)
theorem dX7_isCompared_64 : decode cX7_isCompared 64 = .ok (.ireturn, 1) := dk_172 (dk_at dksX7_isCompared_2 17 rfl rfl)
def dkwX7_behindTest_5 : List UInt8 := [181, 1, 12, 42, 89, 180, 1, 65, 4, 100, 181, 1, 65, 5, 172]
abbrev dktX7_behindTest_5 : List UInt8 := dkwX7_behindTest_5 ++ []
def dkwX7_behindTest_4 : List UInt8 := [182, 1, 5, 42, 180, 0, 226, 154, 0, 28, 42, 4, 182, 1, 98, 42, 89, 180, 1, 12, 4, 100]
abbrev dktX7_behindTest_4 : List UInt8 := dkwX7_behindTest_4 ++ dktX7_behindTest_5
def dkwX7_behindTest_3 : List UInt8 := [182, 0, 230, 3, 172, 42, 182, 1, 101, 2, 160, 0, 5, 7, 172, 42, 42, 16, 41, 182, 1, 74]
abbrev dktX7_behindTest_3 : List UInt8 := dkwX7_behindTest_3 ++ dktX7_behindTest_4
def dkwX7_behindTest_2 : List UInt8 := [180, 1, 9, 182, 1, 68, 42, 27, 153, 0, 8, 16, 28, 167, 0, 5, 16, 29, 3, 182, 1, 18, 42]
abbrev dktX7_behindTest_2 : List UInt8 := dkwX7_behindTest_2 ++ dktX7_behindTest_3
def dkwX7_behindTest_1 : List UInt8 := [153, 0, 7, 5, 167, 0, 4, 4, 182, 1, 98, 42, 27, 153, 0, 8, 16, 28, 167, 0, 5, 16, 29, 42]
abbrev dktX7_behindTest_1 : List UInt8 := dkwX7_behindTest_1 ++ dktX7_behindTest_2
def dkwX7_behindTest_0 : List UInt8 := [42, 20, 1, 108, 182, 1, 31, 60, 27, 154, 0, 13, 42, 20, 1, 110, 182, 1, 31, 153, 0, 57, 42, 27]
abbrev dktX7_behindTest_0 : List UInt8 := dkwX7_behindTest_0 ++ dktX7_behindTest_1
theorem dksX7_behindTest_0 : cX7_behindTest.data.toList.drop 0 = dktX7_behindTest_0 := by decide +kernel
theorem dksX7_behindTest_1 : cX7_behindTest.data.toList.drop 24 = dktX7_behindTest_1 := dk_seg dksX7_behindTest_0 24 rfl rfl
theorem dksX7_behindTest_2 : cX7_behindTest.data.toList.drop 48 = dktX7_behindTest_2 := dk_seg dksX7_behindTest_1 24 rfl rfl
theorem dksX7_behindTest_3 : cX7_behindTest.data.toList.drop 71 = dktX7_behindTest_3 := dk_seg dksX7_behindTest_2 23 rfl rfl
theorem dksX7_behindTest_4 : cX7_behindTest.data.toList.drop 93 = dktX7_behindTest_4 := dk_seg dksX7_behindTest_3 22 rfl rfl
theorem dksX7_behindTest_5 : cX7_behindTest.data.toList.drop 115 = dktX7_behindTest_5 := dk_seg dksX7_behindTest_4 22 rfl rfl
theorem dX7_behindTest_0 : decode cX7_behindTest 0 = .ok (.aload_n 0, 1) := dk_42 (dk_at dksX7_behindTest_0 0 rfl rfl)
theorem dX7_behindTest_1 : decode cX7_behindTest 1 = .ok (.ldc2_w 364, 3) := dk_20 1 108 (dk_at dksX7_behindTest_0 1 rfl rfl)
theorem dX7_behindTest_4 : decode cX7_behindTest 4 = .ok (.invokevirtual 287, 3) := dk_182 1 31 (dk_at dksX7_behindTest_0 4 rfl rfl)
theorem dX7_behindTest_7 : decode cX7_behindTest 7 = .ok (.istore_n 1, 1) := dk_60 (dk_at dksX7_behindTest_0 7 rfl rfl)
theorem dX7_behindTest_8 : decode cX7_behindTest 8 = .ok (.iload_n 1, 1) := dk_27 (dk_at dksX7_behindTest_0 8 rfl rfl)
theorem dX7_behindTest_9 : decode cX7_behindTest 9 = .ok (.ifCond .ne 13, 3) := dk_154 0 13 (dk_at dksX7_behindTest_0 9 rfl rfl)
theorem dX7_behindTest_12 : decode cX7_behindTest 12 = .ok (.aload_n 0, 1) := dk_42 (dk_at dksX7_behindTest_0 12 rfl rfl)
theorem dX7_behindTest_13 : decode cX7_behindTest 13 = .ok (.ldc2_w 366, 3) := dk_20 1 110 (dk_at dksX7_behindTest_0 13 rfl rfl)
theorem dX7_behindTest_16 : decode cX7_behindTest 16 = .ok (.invokevirtual 287, 3) := dk_182 1 31 (dk_at dksX7_behindTest_0 16 rfl rfl)
theorem dX7_behindTest_19 : decode cX7_behindTest 19 = .ok (.ifCond .eq 57, 3) := dk_153 0 57 (dk_at dksX7_behindTest_0 19 rfl rfl)
theorem dX7_behindTest_22 : decode cX7_behindTest 22 = .ok (.aload_n 0, 1) := dk_42 (dk_at dksX7_behindTest_0 22 rfl rfl)
theorem dX7_behindTest_23 : decode cX7_behindTest 23 = .ok (.iload_n 1, 1) := dk_27 (dk_at dksX7_behindTest_0 23 rfl rfl)
theorem dX7_behindTest_24 : decode cX7_behindTest 24 = .ok (.ifCond .eq 7, 3) := dk_153 0 7 (dk_at dksX7_behindTest_1 0 rfl rfl)
theorem dX7_behindTest_27 : decode cX7_behindTest 27 = .ok (.iconst 2, 1) := dk_5 (dk_at dksX7_behindTest_1 3 rfl rfl)
theorem dX7_behindTest_28 : decode cX7_behindTest 28 = .ok (.goto 4, 3) := dk_167 0 4 (dk_at dksX7_behindTest_1 4 rfl rfl)
theorem dX7_behindTest_31 : decode cX7_behindTest 31 = .ok (.iconst 1, 1) := dk_4 (dk_at dksX7_behindTest_1 7 rfl rfl)
theorem dX7_behindTest_32 : decode cX7_behindTest 32 = .ok (.invokevirtual 354, 3) := dk_182 1 98 (dk_at dksX7_behindTest_1 8 rfl rfl)
theorem dX7_behindTest_35 : decode cX7_behindTest 35 = .ok (.aload_n 0, 1) := dk_42 (dk_at dksX7_behindTest_1 11 rfl rfl)
theorem dX7_behindTest_36 : decode cX7_behindTest 36 = .ok (.iload_n 1, 1) := dk_27 (dk_at dksX7_behindTest_1 12 rfl rfl)
theorem dX7_behindTest_37 : decode cX7_behindTest 37 = .ok (.ifCond .eq 8, 3) := dk_153 0 8 (dk_at dksX7_behindTest_1 13 rfl rfl)
theorem dX7_behindTest_40 : decode cX7_behindTest 40 = .ok (.bipush 28, 2) := dk_16 28 (dk_at dksX7_behindTest_1 16 rfl rfl)
theorem dX7_behindTest_42 : decode cX7_behindTest 42 = .ok (.goto 5, 3) := dk_167 0 5 (dk_at dksX7_behindTest_1 18 rfl rfl)
theorem dX7_behindTest_45 : decode cX7_behindTest 45 = .ok (.bipush 29, 2) := dk_16 29 (dk_at dksX7_behindTest_1 21 rfl rfl)
theorem dX7_behindTest_47 : decode cX7_behindTest 47 = .ok (.aload_n 0, 1) := dk_42 (dk_at dksX7_behindTest_1 23 rfl rfl)
theorem dX7_behindTest_48 : decode cX7_behindTest 48 = .ok (.getfield 265, 3) := dk_180 1 9 (dk_at dksX7_behindTest_2 0 rfl rfl)
theorem dX7_behindTest_51 : decode cX7_behindTest 51 = .ok (.invokevirtual 324, 3) := dk_182 1 68 (dk_at dksX7_behindTest_2 3 rfl rfl)
theorem dX7_behindTest_54 : decode cX7_behindTest 54 = .ok (.aload_n 0, 1) := dk_42 (dk_at dksX7_behindTest_2 6 rfl rfl)
theorem dX7_behindTest_55 : decode cX7_behindTest 55 = .ok (.iload_n 1, 1) := dk_27 (dk_at dksX7_behindTest_2 7 rfl rfl)
theorem dX7_behindTest_56 : decode cX7_behindTest 56 = .ok (.ifCond .eq 8, 3) := dk_153 0 8 (dk_at dksX7_behindTest_2 8 rfl rfl)
theorem dX7_behindTest_59 : decode cX7_behindTest 59 = .ok (.bipush 28, 2) := dk_16 28 (dk_at dksX7_behindTest_2 11 rfl rfl)
theorem dX7_behindTest_61 : decode cX7_behindTest 61 = .ok (.goto 5, 3) := dk_167 0 5 (dk_at dksX7_behindTest_2 13 rfl rfl)
theorem dX7_behindTest_64 : decode cX7_behindTest 64 = .ok (.bipush 29, 2) := dk_16 29 (dk_at dksX7_behindTest_2 16 rfl rfl)
theorem dX7_behindTest_66 : decode cX7_behindTest 66 = .ok (.iconst 0, 1) := dk_3 (dk_at dksX7_behindTest_2 18 rfl rfl)
theorem dX7_behindTest_67 : decode cX7_behindTest 67 = .ok (.invokevirtual 274, 3) := dk_182 1 18 (dk_at dksX7_behindTest_2 19 rfl rfl)
theorem dX7_behindTest_70 : decode cX7_behindTest 70 = .ok (.aload_n 0, 1) := dk_42 (dk_at dksX7_behindTest_2 22 rfl rfl)
theorem dX7_behindTest_71 : decode cX7_behindTest 71 = .ok (.invokevirtual 230, 3) := dk_182 0 230 (dk_at dksX7_behindTest_3 0 rfl rfl)
theorem dX7_behindTest_74 : decode cX7_behindTest 74 = .ok (.iconst 0, 1) := dk_3 (dk_at dksX7_behindTest_3 3 rfl rfl)
theorem dX7_behindTest_75 : decode cX7_behindTest 75 = .ok (.ireturn, 1) := dk_172 (dk_at dksX7_behindTest_3 4 rfl rfl)
theorem dX7_behindTest_76 : decode cX7_behindTest 76 = .ok (.aload_n 0, 1) := dk_42 (dk_at dksX7_behindTest_3 5 rfl rfl)
theorem dX7_behindTest_77 : decode cX7_behindTest 77 = .ok (.invokevirtual 357, 3) := dk_182 1 101 (dk_at dksX7_behindTest_3 6 rfl rfl)
theorem dX7_behindTest_80 : decode cX7_behindTest 80 = .ok (.iconst (-1), 1) := dk_2 (dk_at dksX7_behindTest_3 9 rfl rfl)
theorem dX7_behindTest_81 : decode cX7_behindTest 81 = .ok (.if_icmp .ne 5, 3) := dk_160 0 5 (dk_at dksX7_behindTest_3 10 rfl rfl)
theorem dX7_behindTest_84 : decode cX7_behindTest 84 = .ok (.iconst 4, 1) := dk_7 (dk_at dksX7_behindTest_3 13 rfl rfl)
theorem dX7_behindTest_85 : decode cX7_behindTest 85 = .ok (.ireturn, 1) := dk_172 (dk_at dksX7_behindTest_3 14 rfl rfl)
theorem dX7_behindTest_86 : decode cX7_behindTest 86 = .ok (.aload_n 0, 1) := dk_42 (dk_at dksX7_behindTest_3 15 rfl rfl)
theorem dX7_behindTest_87 : decode cX7_behindTest 87 = .ok (.aload_n 0, 1) := dk_42 (dk_at dksX7_behindTest_3 16 rfl rfl)
theorem dX7_behindTest_88 : decode cX7_behindTest 88 = .ok (.bipush 41, 2) := dk_16 41 (dk_at dksX7_behindTest_3 17 rfl rfl)
theorem dX7_behindTest_90 : decode cX7_behindTest 90 = .ok (.invokevirtual 330, 3) := dk_182 1 74 (dk_at dksX7_behindTest_3 19 rfl rfl)
theorem dX7_behindTest_93 : decode cX7_behindTest 93 = .ok (.invokevirtual 261, 3) := dk_182 1 5 (dk_at dksX7_behindTest_4 0 rfl rfl)
theorem dX7_behindTest_96 : decode cX7_behindTest 96 = .ok (.aload_n 0, 1) := dk_42 (dk_at dksX7_behindTest_4 3 rfl rfl)
theorem dX7_behindTest_97 : decode cX7_behindTest 97 = .ok (.getfield 226, 3) := dk_180 0 226 (dk_at dksX7_behindTest_4 4 rfl rfl)
theorem dX7_behindTest_100 : decode cX7_behindTest 100 = .ok (.ifCond .ne 28, 3) := dk_154 0 28 (dk_at dksX7_behindTest_4 7 rfl rfl)
theorem dX7_behindTest_103 : decode cX7_behindTest 103 = .ok (.aload_n 0, 1) := dk_42 (dk_at dksX7_behindTest_4 10 rfl rfl)
theorem dX7_behindTest_104 : decode cX7_behindTest 104 = .ok (.iconst 1, 1) := dk_4 (dk_at dksX7_behindTest_4 11 rfl rfl)
theorem dX7_behindTest_105 : decode cX7_behindTest 105 = .ok (.invokevirtual 354, 3) := dk_182 1 98 (dk_at dksX7_behindTest_4 12 rfl rfl)
theorem dX7_behindTest_108 : decode cX7_behindTest 108 = .ok (.aload_n 0, 1) := dk_42 (dk_at dksX7_behindTest_4 15 rfl rfl)
theorem dX7_behindTest_109 : decode cX7_behindTest 109 = .ok (.dup, 1) := dk_89 (dk_at dksX7_behindTest_4 16 rfl rfl)
theorem dX7_behindTest_110 : decode cX7_behindTest 110 = .ok (.getfield 268, 3) := dk_180 1 12 (dk_at dksX7_behindTest_4 17 rfl rfl)
theorem dX7_behindTest_113 : decode cX7_behindTest 113 = .ok (.iconst 1, 1) := dk_4 (dk_at dksX7_behindTest_4 20 rfl rfl)
theorem dX7_behindTest_114 : decode cX7_behindTest 114 = .ok (.isub, 1) := dk_100 (dk_at dksX7_behindTest_4 21 rfl rfl)
theorem dX7_behindTest_115 : decode cX7_behindTest 115 = .ok (.putfield 268, 3) := dk_181 1 12 (dk_at dksX7_behindTest_5 0 rfl rfl)
theorem dX7_behindTest_118 : decode cX7_behindTest 118 = .ok (.aload_n 0, 1) := dk_42 (dk_at dksX7_behindTest_5 3 rfl rfl)
theorem dX7_behindTest_119 : decode cX7_behindTest 119 = .ok (.dup, 1) := dk_89 (dk_at dksX7_behindTest_5 4 rfl rfl)
theorem dX7_behindTest_120 : decode cX7_behindTest 120 = .ok (.getfield 321, 3) := dk_180 1 65 (dk_at dksX7_behindTest_5 5 rfl rfl)
theorem dX7_behindTest_123 : decode cX7_behindTest 123 = .ok (.iconst 1, 1) := dk_4 (dk_at dksX7_behindTest_5 8 rfl rfl)
theorem dX7_behindTest_124 : decode cX7_behindTest 124 = .ok (.isub, 1) := dk_100 (dk_at dksX7_behindTest_5 9 rfl rfl)
theorem dX7_behindTest_125 : decode cX7_behindTest 125 = .ok (.putfield 321, 3) := dk_181 1 65 (dk_at dksX7_behindTest_5 10 rfl rfl)
theorem dX7_behindTest_128 : decode cX7_behindTest 128 = .ok (.iconst 2, 1) := dk_5 (dk_at dksX7_behindTest_5 13 rfl rfl)
theorem dX7_behindTest_129 : decode cX7_behindTest 129 = .ok (.ireturn, 1) := dk_172 (dk_at dksX7_behindTest_5 14 rfl rfl)
def dkwX7_force_3 : List UInt8 := [180, 0, 52, 16, 12, 27, 104, 28, 96, 51, 154, 0, 7, 4, 167, 0, 4, 3, 172]
abbrev dktX7_force_3 : List UInt8 := dkwX7_force_3 ++ []
def dkwX7_force_2 : List UInt8 := [184, 0, 159, 154, 0, 5, 2, 172, 42, 29, 182, 0, 199, 42, 180, 0, 49, 27, 51, 153, 0, 21, 42]
abbrev dktX7_force_2 : List UInt8 := dkwX7_force_2 ++ dktX7_force_3
def dkwX7_force_1 : List UInt8 := [133, 9, 42, 180, 0, 7, 27, 184, 1, 167, 4, 96, 46, 133, 10, 101, 184, 0, 121, 153, 0, 10, 29]
abbrev dktX7_force_1 : List UInt8 := dkwX7_force_1 ++ dktX7_force_2
def dkwX7_force_0 : List UInt8 := [42, 3, 181, 0, 113, 27, 133, 9, 42, 180, 0, 7, 5, 46, 133, 10, 101, 184, 0, 121, 153, 0, 33, 28]
abbrev dktX7_force_0 : List UInt8 := dkwX7_force_0 ++ dktX7_force_1
theorem dksX7_force_0 : cX7_force.data.toList.drop 0 = dktX7_force_0 := by decide +kernel
theorem dksX7_force_1 : cX7_force.data.toList.drop 24 = dktX7_force_1 := dk_seg dksX7_force_0 24 rfl rfl
theorem dksX7_force_2 : cX7_force.data.toList.drop 47 = dktX7_force_2 := dk_seg dksX7_force_1 23 rfl rfl
theorem dksX7_force_3 : cX7_force.data.toList.drop 70 = dktX7_force_3 := dk_seg dksX7_force_2 23 rfl rfl
theorem dX7_force_0 : decode cX7_force 0 = .ok (.aload_n 0, 1) := dk_42 (dk_at dksX7_force_0 0 rfl rfl)
theorem dX7_force_1 : decode cX7_force 1 = .ok (.iconst 0, 1) := dk_3 (dk_at dksX7_force_0 1 rfl rfl)
theorem dX7_force_2 : decode cX7_force 2 = .ok (.putfield 113, 3) := dk_181 0 113 (dk_at dksX7_force_0 2 rfl rfl)
theorem dX7_force_5 : decode cX7_force 5 = .ok (.iload_n 1, 1) := dk_27 (dk_at dksX7_force_0 5 rfl rfl)
theorem dX7_force_6 : decode cX7_force 6 = .ok (.i2l, 1) := dk_133 (dk_at dksX7_force_0 6 rfl rfl)
theorem dX7_force_7 : decode cX7_force 7 = .ok (.lconst 0, 1) := dk_9 (dk_at dksX7_force_0 7 rfl rfl)
theorem dX7_force_8 : decode cX7_force 8 = .ok (.aload_n 0, 1) := dk_42 (dk_at dksX7_force_0 8 rfl rfl)
theorem dX7_force_9 : decode cX7_force 9 = .ok (.getfield 7, 3) := dk_180 0 7 (dk_at dksX7_force_0 9 rfl rfl)
theorem dX7_force_12 : decode cX7_force 12 = .ok (.iconst 2, 1) := dk_5 (dk_at dksX7_force_0 12 rfl rfl)
theorem dX7_force_13 : decode cX7_force 13 = .ok (.iaload, 1) := dk_46 (dk_at dksX7_force_0 13 rfl rfl)
theorem dX7_force_14 : decode cX7_force 14 = .ok (.i2l, 1) := dk_133 (dk_at dksX7_force_0 14 rfl rfl)
theorem dX7_force_15 : decode cX7_force 15 = .ok (.lconst 1, 1) := dk_10 (dk_at dksX7_force_0 15 rfl rfl)
theorem dX7_force_16 : decode cX7_force 16 = .ok (.lsub, 1) := dk_101 (dk_at dksX7_force_0 16 rfl rfl)
theorem dX7_force_17 : decode cX7_force 17 = .ok (.invokestatic 121, 3) := dk_184 0 121 (dk_at dksX7_force_0 17 rfl rfl)
theorem dX7_force_20 : decode cX7_force 20 = .ok (.ifCond .eq 33, 3) := dk_153 0 33 (dk_at dksX7_force_0 20 rfl rfl)
theorem dX7_force_23 : decode cX7_force 23 = .ok (.iload_n 2, 1) := dk_28 (dk_at dksX7_force_0 23 rfl rfl)
theorem dX7_force_24 : decode cX7_force 24 = .ok (.i2l, 1) := dk_133 (dk_at dksX7_force_1 0 rfl rfl)
theorem dX7_force_25 : decode cX7_force 25 = .ok (.lconst 0, 1) := dk_9 (dk_at dksX7_force_1 1 rfl rfl)
theorem dX7_force_26 : decode cX7_force 26 = .ok (.aload_n 0, 1) := dk_42 (dk_at dksX7_force_1 2 rfl rfl)
theorem dX7_force_27 : decode cX7_force 27 = .ok (.getfield 7, 3) := dk_180 0 7 (dk_at dksX7_force_1 3 rfl rfl)
theorem dX7_force_30 : decode cX7_force 30 = .ok (.iload_n 1, 1) := dk_27 (dk_at dksX7_force_1 6 rfl rfl)
theorem dX7_force_31 : decode cX7_force 31 = .ok (.invokestatic 423, 3) := dk_184 1 167 (dk_at dksX7_force_1 7 rfl rfl)
theorem dX7_force_34 : decode cX7_force 34 = .ok (.iconst 1, 1) := dk_4 (dk_at dksX7_force_1 10 rfl rfl)
theorem dX7_force_35 : decode cX7_force 35 = .ok (.iadd, 1) := dk_96 (dk_at dksX7_force_1 11 rfl rfl)
theorem dX7_force_36 : decode cX7_force 36 = .ok (.iaload, 1) := dk_46 (dk_at dksX7_force_1 12 rfl rfl)
theorem dX7_force_37 : decode cX7_force 37 = .ok (.i2l, 1) := dk_133 (dk_at dksX7_force_1 13 rfl rfl)
theorem dX7_force_38 : decode cX7_force 38 = .ok (.lconst 1, 1) := dk_10 (dk_at dksX7_force_1 14 rfl rfl)
theorem dX7_force_39 : decode cX7_force 39 = .ok (.lsub, 1) := dk_101 (dk_at dksX7_force_1 15 rfl rfl)
theorem dX7_force_40 : decode cX7_force 40 = .ok (.invokestatic 121, 3) := dk_184 0 121 (dk_at dksX7_force_1 16 rfl rfl)
theorem dX7_force_43 : decode cX7_force 43 = .ok (.ifCond .eq 10, 3) := dk_153 0 10 (dk_at dksX7_force_1 19 rfl rfl)
theorem dX7_force_46 : decode cX7_force 46 = .ok (.iload_n 3, 1) := dk_29 (dk_at dksX7_force_1 22 rfl rfl)
theorem dX7_force_47 : decode cX7_force 47 = .ok (.invokestatic 159, 3) := dk_184 0 159 (dk_at dksX7_force_2 0 rfl rfl)
theorem dX7_force_50 : decode cX7_force 50 = .ok (.ifCond .ne 5, 3) := dk_154 0 5 (dk_at dksX7_force_2 3 rfl rfl)
theorem dX7_force_53 : decode cX7_force 53 = .ok (.iconst (-1), 1) := dk_2 (dk_at dksX7_force_2 6 rfl rfl)
theorem dX7_force_54 : decode cX7_force 54 = .ok (.ireturn, 1) := dk_172 (dk_at dksX7_force_2 7 rfl rfl)
theorem dX7_force_55 : decode cX7_force 55 = .ok (.aload_n 0, 1) := dk_42 (dk_at dksX7_force_2 8 rfl rfl)
theorem dX7_force_56 : decode cX7_force 56 = .ok (.iload_n 3, 1) := dk_29 (dk_at dksX7_force_2 9 rfl rfl)
theorem dX7_force_57 : decode cX7_force 57 = .ok (.invokevirtual 199, 3) := dk_182 0 199 (dk_at dksX7_force_2 10 rfl rfl)
theorem dX7_force_60 : decode cX7_force 60 = .ok (.aload_n 0, 1) := dk_42 (dk_at dksX7_force_2 13 rfl rfl)
theorem dX7_force_61 : decode cX7_force 61 = .ok (.getfield 49, 3) := dk_180 0 49 (dk_at dksX7_force_2 14 rfl rfl)
theorem dX7_force_64 : decode cX7_force 64 = .ok (.iload_n 1, 1) := dk_27 (dk_at dksX7_force_2 17 rfl rfl)
theorem dX7_force_65 : decode cX7_force 65 = .ok (.baload, 1) := dk_51 (dk_at dksX7_force_2 18 rfl rfl)
theorem dX7_force_66 : decode cX7_force 66 = .ok (.ifCond .eq 21, 3) := dk_153 0 21 (dk_at dksX7_force_2 19 rfl rfl)
theorem dX7_force_69 : decode cX7_force 69 = .ok (.aload_n 0, 1) := dk_42 (dk_at dksX7_force_2 22 rfl rfl)
theorem dX7_force_70 : decode cX7_force 70 = .ok (.getfield 52, 3) := dk_180 0 52 (dk_at dksX7_force_3 0 rfl rfl)
theorem dX7_force_73 : decode cX7_force 73 = .ok (.bipush 12, 2) := dk_16 12 (dk_at dksX7_force_3 3 rfl rfl)
theorem dX7_force_75 : decode cX7_force 75 = .ok (.iload_n 1, 1) := dk_27 (dk_at dksX7_force_3 5 rfl rfl)
theorem dX7_force_76 : decode cX7_force 76 = .ok (.imul, 1) := dk_104 (dk_at dksX7_force_3 6 rfl rfl)
theorem dX7_force_77 : decode cX7_force 77 = .ok (.iload_n 2, 1) := dk_28 (dk_at dksX7_force_3 7 rfl rfl)
theorem dX7_force_78 : decode cX7_force 78 = .ok (.iadd, 1) := dk_96 (dk_at dksX7_force_3 8 rfl rfl)
theorem dX7_force_79 : decode cX7_force 79 = .ok (.baload, 1) := dk_51 (dk_at dksX7_force_3 9 rfl rfl)
theorem dX7_force_80 : decode cX7_force 80 = .ok (.ifCond .ne 7, 3) := dk_154 0 7 (dk_at dksX7_force_3 10 rfl rfl)
theorem dX7_force_83 : decode cX7_force 83 = .ok (.iconst 1, 1) := dk_4 (dk_at dksX7_force_3 13 rfl rfl)
theorem dX7_force_84 : decode cX7_force 84 = .ok (.goto 4, 3) := dk_167 0 4 (dk_at dksX7_force_3 14 rfl rfl)
theorem dX7_force_87 : decode cX7_force 87 = .ok (.iconst 0, 1) := dk_3 (dk_at dksX7_force_3 17 rfl rfl)
theorem dX7_force_88 : decode cX7_force 88 = .ok (.ireturn, 1) := dk_172 (dk_at dksX7_force_3 18 rfl rfl)
def dkwX7_rule_4 : List UInt8 := [17, 0, 200, 182, 1, 212, 172]
abbrev dktX7_rule_4 : List UInt8 := dkwX7_rule_4 ++ []
def dkwX7_rule_3 : List UInt8 := [42, 27, 182, 1, 176, 21, 4, 154, 0, 14, 42, 8, 17, 3, 232, 182, 1, 212, 167, 0, 12, 42, 16, 6]
abbrev dktX7_rule_3 : List UInt8 := dkwX7_rule_3 ++ dktX7_rule_4
def dkwX7_rule_2 : List UInt8 := [42, 28, 29, 182, 0, 205, 21, 4, 5, 160, 0, 15, 42, 182, 1, 173, 42, 16, 7, 3, 182, 1, 212, 172]
abbrev dktX7_rule_2 : List UInt8 := dkwX7_rule_2 ++ dktX7_rule_3
def dkwX7_rule_1 : List UInt8 := [42, 27, 182, 0, 162, 153, 0, 17, 28, 184, 0, 159, 153, 0, 10, 29, 184, 0, 159, 154, 0, 5, 2, 172]
abbrev dktX7_rule_1 : List UInt8 := dkwX7_rule_1 ++ dktX7_rule_2
def dkwX7_rule_0 : List UInt8 := [42, 3, 181, 0, 113, 21, 4, 133, 9, 20, 0, 211, 184, 0, 121, 153, 0, 31, 21, 4, 5, 162, 0, 11]
abbrev dktX7_rule_0 : List UInt8 := dkwX7_rule_0 ++ dktX7_rule_1
theorem dksX7_rule_0 : cX7_rule.data.toList.drop 0 = dktX7_rule_0 := by decide +kernel
theorem dksX7_rule_1 : cX7_rule.data.toList.drop 24 = dktX7_rule_1 := dk_seg dksX7_rule_0 24 rfl rfl
theorem dksX7_rule_2 : cX7_rule.data.toList.drop 48 = dktX7_rule_2 := dk_seg dksX7_rule_1 24 rfl rfl
theorem dksX7_rule_3 : cX7_rule.data.toList.drop 72 = dktX7_rule_3 := dk_seg dksX7_rule_2 24 rfl rfl
theorem dksX7_rule_4 : cX7_rule.data.toList.drop 96 = dktX7_rule_4 := dk_seg dksX7_rule_3 24 rfl rfl
theorem dX7_rule_0 : decode cX7_rule 0 = .ok (.aload_n 0, 1) := dk_42 (dk_at dksX7_rule_0 0 rfl rfl)
theorem dX7_rule_1 : decode cX7_rule 1 = .ok (.iconst 0, 1) := dk_3 (dk_at dksX7_rule_0 1 rfl rfl)
theorem dX7_rule_2 : decode cX7_rule 2 = .ok (.putfield 113, 3) := dk_181 0 113 (dk_at dksX7_rule_0 2 rfl rfl)
theorem dX7_rule_5 : decode cX7_rule 5 = .ok (.iload 4, 2) := dk_21 4 (dk_at dksX7_rule_0 5 rfl rfl)
theorem dX7_rule_7 : decode cX7_rule 7 = .ok (.i2l, 1) := dk_133 (dk_at dksX7_rule_0 7 rfl rfl)
theorem dX7_rule_8 : decode cX7_rule 8 = .ok (.lconst 0, 1) := dk_9 (dk_at dksX7_rule_0 8 rfl rfl)
theorem dX7_rule_9 : decode cX7_rule 9 = .ok (.ldc2_w 211, 3) := dk_20 0 211 (dk_at dksX7_rule_0 9 rfl rfl)
theorem dX7_rule_12 : decode cX7_rule 12 = .ok (.invokestatic 121, 3) := dk_184 0 121 (dk_at dksX7_rule_0 12 rfl rfl)
theorem dX7_rule_15 : decode cX7_rule 15 = .ok (.ifCond .eq 31, 3) := dk_153 0 31 (dk_at dksX7_rule_0 15 rfl rfl)
theorem dX7_rule_18 : decode cX7_rule 18 = .ok (.iload 4, 2) := dk_21 4 (dk_at dksX7_rule_0 18 rfl rfl)
theorem dX7_rule_20 : decode cX7_rule 20 = .ok (.iconst 2, 1) := dk_5 (dk_at dksX7_rule_0 20 rfl rfl)
theorem dX7_rule_21 : decode cX7_rule 21 = .ok (.if_icmp .ge 11, 3) := dk_162 0 11 (dk_at dksX7_rule_0 21 rfl rfl)
theorem dX7_rule_24 : decode cX7_rule 24 = .ok (.aload_n 0, 1) := dk_42 (dk_at dksX7_rule_1 0 rfl rfl)
theorem dX7_rule_25 : decode cX7_rule 25 = .ok (.iload_n 1, 1) := dk_27 (dk_at dksX7_rule_1 1 rfl rfl)
theorem dX7_rule_26 : decode cX7_rule 26 = .ok (.invokevirtual 162, 3) := dk_182 0 162 (dk_at dksX7_rule_1 2 rfl rfl)
theorem dX7_rule_29 : decode cX7_rule 29 = .ok (.ifCond .eq 17, 3) := dk_153 0 17 (dk_at dksX7_rule_1 5 rfl rfl)
theorem dX7_rule_32 : decode cX7_rule 32 = .ok (.iload_n 2, 1) := dk_28 (dk_at dksX7_rule_1 8 rfl rfl)
theorem dX7_rule_33 : decode cX7_rule 33 = .ok (.invokestatic 159, 3) := dk_184 0 159 (dk_at dksX7_rule_1 9 rfl rfl)
theorem dX7_rule_36 : decode cX7_rule 36 = .ok (.ifCond .eq 10, 3) := dk_153 0 10 (dk_at dksX7_rule_1 12 rfl rfl)
theorem dX7_rule_39 : decode cX7_rule 39 = .ok (.iload_n 3, 1) := dk_29 (dk_at dksX7_rule_1 15 rfl rfl)
theorem dX7_rule_40 : decode cX7_rule 40 = .ok (.invokestatic 159, 3) := dk_184 0 159 (dk_at dksX7_rule_1 16 rfl rfl)
theorem dX7_rule_43 : decode cX7_rule 43 = .ok (.ifCond .ne 5, 3) := dk_154 0 5 (dk_at dksX7_rule_1 19 rfl rfl)
theorem dX7_rule_46 : decode cX7_rule 46 = .ok (.iconst (-1), 1) := dk_2 (dk_at dksX7_rule_1 22 rfl rfl)
theorem dX7_rule_47 : decode cX7_rule 47 = .ok (.ireturn, 1) := dk_172 (dk_at dksX7_rule_1 23 rfl rfl)
theorem dX7_rule_48 : decode cX7_rule 48 = .ok (.aload_n 0, 1) := dk_42 (dk_at dksX7_rule_2 0 rfl rfl)
theorem dX7_rule_49 : decode cX7_rule 49 = .ok (.iload_n 2, 1) := dk_28 (dk_at dksX7_rule_2 1 rfl rfl)
theorem dX7_rule_50 : decode cX7_rule 50 = .ok (.iload_n 3, 1) := dk_29 (dk_at dksX7_rule_2 2 rfl rfl)
theorem dX7_rule_51 : decode cX7_rule 51 = .ok (.invokevirtual 205, 3) := dk_182 0 205 (dk_at dksX7_rule_2 3 rfl rfl)
theorem dX7_rule_54 : decode cX7_rule 54 = .ok (.iload 4, 2) := dk_21 4 (dk_at dksX7_rule_2 6 rfl rfl)
theorem dX7_rule_56 : decode cX7_rule 56 = .ok (.iconst 2, 1) := dk_5 (dk_at dksX7_rule_2 8 rfl rfl)
theorem dX7_rule_57 : decode cX7_rule 57 = .ok (.if_icmp .ne 15, 3) := dk_160 0 15 (dk_at dksX7_rule_2 9 rfl rfl)
theorem dX7_rule_60 : decode cX7_rule 60 = .ok (.aload_n 0, 1) := dk_42 (dk_at dksX7_rule_2 12 rfl rfl)
theorem dX7_rule_61 : decode cX7_rule 61 = .ok (.invokevirtual 429, 3) := dk_182 1 173 (dk_at dksX7_rule_2 13 rfl rfl)
theorem dX7_rule_64 : decode cX7_rule 64 = .ok (.aload_n 0, 1) := dk_42 (dk_at dksX7_rule_2 16 rfl rfl)
theorem dX7_rule_65 : decode cX7_rule 65 = .ok (.bipush 7, 2) := dk_16 7 (dk_at dksX7_rule_2 17 rfl rfl)
theorem dX7_rule_67 : decode cX7_rule 67 = .ok (.iconst 0, 1) := dk_3 (dk_at dksX7_rule_2 19 rfl rfl)
theorem dX7_rule_68 : decode cX7_rule 68 = .ok (.invokevirtual 468, 3) := dk_182 1 212 (dk_at dksX7_rule_2 20 rfl rfl)
theorem dX7_rule_71 : decode cX7_rule 71 = .ok (.ireturn, 1) := dk_172 (dk_at dksX7_rule_2 23 rfl rfl)
theorem dX7_rule_72 : decode cX7_rule 72 = .ok (.aload_n 0, 1) := dk_42 (dk_at dksX7_rule_3 0 rfl rfl)
theorem dX7_rule_73 : decode cX7_rule 73 = .ok (.iload_n 1, 1) := dk_27 (dk_at dksX7_rule_3 1 rfl rfl)
theorem dX7_rule_74 : decode cX7_rule 74 = .ok (.invokevirtual 432, 3) := dk_182 1 176 (dk_at dksX7_rule_3 2 rfl rfl)
theorem dX7_rule_77 : decode cX7_rule 77 = .ok (.iload 4, 2) := dk_21 4 (dk_at dksX7_rule_3 5 rfl rfl)
theorem dX7_rule_79 : decode cX7_rule 79 = .ok (.ifCond .ne 14, 3) := dk_154 0 14 (dk_at dksX7_rule_3 7 rfl rfl)
theorem dX7_rule_82 : decode cX7_rule 82 = .ok (.aload_n 0, 1) := dk_42 (dk_at dksX7_rule_3 10 rfl rfl)
theorem dX7_rule_83 : decode cX7_rule 83 = .ok (.iconst 5, 1) := dk_8 (dk_at dksX7_rule_3 11 rfl rfl)
theorem dX7_rule_84 : decode cX7_rule 84 = .ok (.sipush 1000, 3) := dk_17 3 232 (dk_at dksX7_rule_3 12 rfl rfl)
theorem dX7_rule_87 : decode cX7_rule 87 = .ok (.invokevirtual 468, 3) := dk_182 1 212 (dk_at dksX7_rule_3 15 rfl rfl)
theorem dX7_rule_90 : decode cX7_rule 90 = .ok (.goto 12, 3) := dk_167 0 12 (dk_at dksX7_rule_3 18 rfl rfl)
theorem dX7_rule_93 : decode cX7_rule 93 = .ok (.aload_n 0, 1) := dk_42 (dk_at dksX7_rule_3 21 rfl rfl)
theorem dX7_rule_94 : decode cX7_rule 94 = .ok (.bipush 6, 2) := dk_16 6 (dk_at dksX7_rule_3 22 rfl rfl)
theorem dX7_rule_96 : decode cX7_rule 96 = .ok (.sipush 200, 3) := dk_17 0 200 (dk_at dksX7_rule_4 0 rfl rfl)
theorem dX7_rule_99 : decode cX7_rule 99 = .ok (.invokevirtual 468, 3) := dk_182 1 212 (dk_at dksX7_rule_4 3 rfl rfl)
theorem dX7_rule_102 : decode cX7_rule 102 = .ok (.ireturn, 1) := dk_172 (dk_at dksX7_rule_4 6 rfl rfl)
def dkwX7_ruleOf_1 : List UInt8 := [42, 180, 1, 206, 136, 172]
abbrev dktX7_ruleOf_1 : List UInt8 := dkwX7_ruleOf_1 ++ []
def dkwX7_ruleOf_0 : List UInt8 := [42, 27, 2, 182, 0, 195, 154, 0, 5, 28, 172, 42, 180, 1, 206, 9, 148, 156, 0, 7, 3, 167, 0, 8]
abbrev dktX7_ruleOf_0 : List UInt8 := dkwX7_ruleOf_0 ++ dktX7_ruleOf_1
theorem dksX7_ruleOf_0 : cX7_ruleOf.data.toList.drop 0 = dktX7_ruleOf_0 := by decide +kernel
theorem dksX7_ruleOf_1 : cX7_ruleOf.data.toList.drop 24 = dktX7_ruleOf_1 := dk_seg dksX7_ruleOf_0 24 rfl rfl
theorem dX7_ruleOf_0 : decode cX7_ruleOf 0 = .ok (.aload_n 0, 1) := dk_42 (dk_at dksX7_ruleOf_0 0 rfl rfl)
theorem dX7_ruleOf_1 : decode cX7_ruleOf 1 = .ok (.iload_n 1, 1) := dk_27 (dk_at dksX7_ruleOf_0 1 rfl rfl)
theorem dX7_ruleOf_2 : decode cX7_ruleOf 2 = .ok (.iconst (-1), 1) := dk_2 (dk_at dksX7_ruleOf_0 2 rfl rfl)
theorem dX7_ruleOf_3 : decode cX7_ruleOf 3 = .ok (.invokevirtual 195, 3) := dk_182 0 195 (dk_at dksX7_ruleOf_0 3 rfl rfl)
theorem dX7_ruleOf_6 : decode cX7_ruleOf 6 = .ok (.ifCond .ne 5, 3) := dk_154 0 5 (dk_at dksX7_ruleOf_0 6 rfl rfl)
theorem dX7_ruleOf_9 : decode cX7_ruleOf 9 = .ok (.iload_n 2, 1) := dk_28 (dk_at dksX7_ruleOf_0 9 rfl rfl)
theorem dX7_ruleOf_10 : decode cX7_ruleOf 10 = .ok (.ireturn, 1) := dk_172 (dk_at dksX7_ruleOf_0 10 rfl rfl)
theorem dX7_ruleOf_11 : decode cX7_ruleOf 11 = .ok (.aload_n 0, 1) := dk_42 (dk_at dksX7_ruleOf_0 11 rfl rfl)
theorem dX7_ruleOf_12 : decode cX7_ruleOf 12 = .ok (.getfield 462, 3) := dk_180 1 206 (dk_at dksX7_ruleOf_0 12 rfl rfl)
theorem dX7_ruleOf_15 : decode cX7_ruleOf 15 = .ok (.lconst 0, 1) := dk_9 (dk_at dksX7_ruleOf_0 15 rfl rfl)
theorem dX7_ruleOf_16 : decode cX7_ruleOf 16 = .ok (.lcmp, 1) := dk_148 (dk_at dksX7_ruleOf_0 16 rfl rfl)
theorem dX7_ruleOf_17 : decode cX7_ruleOf 17 = .ok (.ifCond .ge 7, 3) := dk_156 0 7 (dk_at dksX7_ruleOf_0 17 rfl rfl)
theorem dX7_ruleOf_20 : decode cX7_ruleOf 20 = .ok (.iconst 0, 1) := dk_3 (dk_at dksX7_ruleOf_0 20 rfl rfl)
theorem dX7_ruleOf_21 : decode cX7_ruleOf 21 = .ok (.goto 8, 3) := dk_167 0 8 (dk_at dksX7_ruleOf_0 21 rfl rfl)
theorem dX7_ruleOf_24 : decode cX7_ruleOf 24 = .ok (.aload_n 0, 1) := dk_42 (dk_at dksX7_ruleOf_1 0 rfl rfl)
theorem dX7_ruleOf_25 : decode cX7_ruleOf 25 = .ok (.getfield 462, 3) := dk_180 1 206 (dk_at dksX7_ruleOf_1 1 rfl rfl)
theorem dX7_ruleOf_28 : decode cX7_ruleOf 28 = .ok (.l2i, 1) := dk_136 (dk_at dksX7_ruleOf_1 4 rfl rfl)
theorem dX7_ruleOf_29 : decode cX7_ruleOf 29 = .ok (.ireturn, 1) := dk_172 (dk_at dksX7_ruleOf_1 5 rfl rfl)
def dkwX7_setPlace_1 : List UInt8 := [184, 0, 133, 46, 133, 80, 42, 180, 0, 55, 16, 6, 42, 180, 0, 24, 27, 46, 133, 80, 177]
abbrev dktX7_setPlace_1 : List UInt8 := dkwX7_setPlace_1 ++ []
def dkwX7_setPlace_0 : List UInt8 := [42, 182, 1, 173, 42, 180, 0, 55, 6, 27, 133, 80, 42, 180, 0, 55, 7, 42, 180, 0, 7, 27]
abbrev dktX7_setPlace_0 : List UInt8 := dkwX7_setPlace_0 ++ dktX7_setPlace_1
theorem dksX7_setPlace_0 : cX7_setPlace.data.toList.drop 0 = dktX7_setPlace_0 := by decide +kernel
theorem dksX7_setPlace_1 : cX7_setPlace.data.toList.drop 22 = dktX7_setPlace_1 := dk_seg dksX7_setPlace_0 22 rfl rfl
theorem dX7_setPlace_0 : decode cX7_setPlace 0 = .ok (.aload_n 0, 1) := dk_42 (dk_at dksX7_setPlace_0 0 rfl rfl)
theorem dX7_setPlace_1 : decode cX7_setPlace 1 = .ok (.invokevirtual 429, 3) := dk_182 1 173 (dk_at dksX7_setPlace_0 1 rfl rfl)
theorem dX7_setPlace_4 : decode cX7_setPlace 4 = .ok (.aload_n 0, 1) := dk_42 (dk_at dksX7_setPlace_0 4 rfl rfl)
theorem dX7_setPlace_5 : decode cX7_setPlace 5 = .ok (.getfield 55, 3) := dk_180 0 55 (dk_at dksX7_setPlace_0 5 rfl rfl)
theorem dX7_setPlace_8 : decode cX7_setPlace 8 = .ok (.iconst 3, 1) := dk_6 (dk_at dksX7_setPlace_0 8 rfl rfl)
theorem dX7_setPlace_9 : decode cX7_setPlace 9 = .ok (.iload_n 1, 1) := dk_27 (dk_at dksX7_setPlace_0 9 rfl rfl)
theorem dX7_setPlace_10 : decode cX7_setPlace 10 = .ok (.i2l, 1) := dk_133 (dk_at dksX7_setPlace_0 10 rfl rfl)
theorem dX7_setPlace_11 : decode cX7_setPlace 11 = .ok (.lastore, 1) := dk_80 (dk_at dksX7_setPlace_0 11 rfl rfl)
theorem dX7_setPlace_12 : decode cX7_setPlace 12 = .ok (.aload_n 0, 1) := dk_42 (dk_at dksX7_setPlace_0 12 rfl rfl)
theorem dX7_setPlace_13 : decode cX7_setPlace 13 = .ok (.getfield 55, 3) := dk_180 0 55 (dk_at dksX7_setPlace_0 13 rfl rfl)
theorem dX7_setPlace_16 : decode cX7_setPlace 16 = .ok (.iconst 4, 1) := dk_7 (dk_at dksX7_setPlace_0 16 rfl rfl)
theorem dX7_setPlace_17 : decode cX7_setPlace 17 = .ok (.aload_n 0, 1) := dk_42 (dk_at dksX7_setPlace_0 17 rfl rfl)
theorem dX7_setPlace_18 : decode cX7_setPlace 18 = .ok (.getfield 7, 3) := dk_180 0 7 (dk_at dksX7_setPlace_0 18 rfl rfl)
theorem dX7_setPlace_21 : decode cX7_setPlace 21 = .ok (.iload_n 1, 1) := dk_27 (dk_at dksX7_setPlace_0 21 rfl rfl)
theorem dX7_setPlace_22 : decode cX7_setPlace 22 = .ok (.invokestatic 133, 3) := dk_184 0 133 (dk_at dksX7_setPlace_1 0 rfl rfl)
theorem dX7_setPlace_25 : decode cX7_setPlace 25 = .ok (.iaload, 1) := dk_46 (dk_at dksX7_setPlace_1 3 rfl rfl)
theorem dX7_setPlace_26 : decode cX7_setPlace 26 = .ok (.i2l, 1) := dk_133 (dk_at dksX7_setPlace_1 4 rfl rfl)
theorem dX7_setPlace_27 : decode cX7_setPlace 27 = .ok (.lastore, 1) := dk_80 (dk_at dksX7_setPlace_1 5 rfl rfl)
theorem dX7_setPlace_28 : decode cX7_setPlace 28 = .ok (.aload_n 0, 1) := dk_42 (dk_at dksX7_setPlace_1 6 rfl rfl)
theorem dX7_setPlace_29 : decode cX7_setPlace 29 = .ok (.getfield 55, 3) := dk_180 0 55 (dk_at dksX7_setPlace_1 7 rfl rfl)
theorem dX7_setPlace_32 : decode cX7_setPlace 32 = .ok (.bipush 6, 2) := dk_16 6 (dk_at dksX7_setPlace_1 10 rfl rfl)
theorem dX7_setPlace_34 : decode cX7_setPlace 34 = .ok (.aload_n 0, 1) := dk_42 (dk_at dksX7_setPlace_1 12 rfl rfl)
theorem dX7_setPlace_35 : decode cX7_setPlace 35 = .ok (.getfield 24, 3) := dk_180 0 24 (dk_at dksX7_setPlace_1 13 rfl rfl)
theorem dX7_setPlace_38 : decode cX7_setPlace 38 = .ok (.iload_n 1, 1) := dk_27 (dk_at dksX7_setPlace_1 16 rfl rfl)
theorem dX7_setPlace_39 : decode cX7_setPlace 39 = .ok (.iaload, 1) := dk_46 (dk_at dksX7_setPlace_1 17 rfl rfl)
theorem dX7_setPlace_40 : decode cX7_setPlace 40 = .ok (.i2l, 1) := dk_133 (dk_at dksX7_setPlace_1 18 rfl rfl)
theorem dX7_setPlace_41 : decode cX7_setPlace 41 = .ok (.lastore, 1) := dk_80 (dk_at dksX7_setPlace_1 19 rfl rfl)
theorem dX7_setPlace_42 : decode cX7_setPlace 42 = .ok (.return_, 1) := dk_177 (dk_at dksX7_setPlace_1 20 rfl rfl)
def dkwX7_wish_5 : List UInt8 := [182, 0, 125, 172]
abbrev dktX7_wish_5 : List UInt8 := dkwX7_wish_5 ++ []
def dkwX7_wish_4 : List UInt8 := [180, 1, 215, 17, 1, 143, 79, 42, 89, 180, 1, 215, 4, 96, 181, 1, 215, 42, 42, 180, 1, 215]
abbrev dktX7_wish_4 : List UInt8 := dkwX7_wish_4 ++ dktX7_wish_5
def dkwX7_wish_3 : List UInt8 := [180, 0, 62, 42, 180, 1, 215, 27, 79, 42, 180, 0, 65, 42, 180, 1, 215, 3, 79, 42, 180, 0, 68, 42]
abbrev dktX7_wish_3 : List UInt8 := dkwX7_wish_3 ++ dktX7_wish_4
def dkwX7_wish_2 : List UInt8 := [132, 2, 1, 167, 255, 228, 42, 180, 1, 215, 16, 7, 160, 0, 10, 42, 16, 251, 182, 0, 125, 172, 42]
abbrev dktX7_wish_2 : List UInt8 := dkwX7_wish_2 ++ dktX7_wish_3
def dkwX7_wish_1 : List UInt8 := [180, 1, 215, 162, 0, 26, 42, 180, 0, 62, 28, 46, 27, 160, 0, 10, 42, 16, 252, 182, 0, 125, 172]
abbrev dktX7_wish_1 : List UInt8 := dkwX7_wish_1 ++ dktX7_wish_2
def dkwX7_wish_0 : List UInt8 := [42, 3, 181, 0, 113, 42, 27, 182, 0, 162, 154, 0, 10, 42, 16, 254, 182, 0, 125, 172, 3, 61, 28, 42]
abbrev dktX7_wish_0 : List UInt8 := dkwX7_wish_0 ++ dktX7_wish_1
theorem dksX7_wish_0 : cX7_wish.data.toList.drop 0 = dktX7_wish_0 := by decide +kernel
theorem dksX7_wish_1 : cX7_wish.data.toList.drop 24 = dktX7_wish_1 := dk_seg dksX7_wish_0 24 rfl rfl
theorem dksX7_wish_2 : cX7_wish.data.toList.drop 47 = dktX7_wish_2 := dk_seg dksX7_wish_1 23 rfl rfl
theorem dksX7_wish_3 : cX7_wish.data.toList.drop 70 = dktX7_wish_3 := dk_seg dksX7_wish_2 23 rfl rfl
theorem dksX7_wish_4 : cX7_wish.data.toList.drop 94 = dktX7_wish_4 := dk_seg dksX7_wish_3 24 rfl rfl
theorem dksX7_wish_5 : cX7_wish.data.toList.drop 116 = dktX7_wish_5 := dk_seg dksX7_wish_4 22 rfl rfl
theorem dX7_wish_0 : decode cX7_wish 0 = .ok (.aload_n 0, 1) := dk_42 (dk_at dksX7_wish_0 0 rfl rfl)
theorem dX7_wish_1 : decode cX7_wish 1 = .ok (.iconst 0, 1) := dk_3 (dk_at dksX7_wish_0 1 rfl rfl)
theorem dX7_wish_2 : decode cX7_wish 2 = .ok (.putfield 113, 3) := dk_181 0 113 (dk_at dksX7_wish_0 2 rfl rfl)
theorem dX7_wish_5 : decode cX7_wish 5 = .ok (.aload_n 0, 1) := dk_42 (dk_at dksX7_wish_0 5 rfl rfl)
theorem dX7_wish_6 : decode cX7_wish 6 = .ok (.iload_n 1, 1) := dk_27 (dk_at dksX7_wish_0 6 rfl rfl)
theorem dX7_wish_7 : decode cX7_wish 7 = .ok (.invokevirtual 162, 3) := dk_182 0 162 (dk_at dksX7_wish_0 7 rfl rfl)
theorem dX7_wish_10 : decode cX7_wish 10 = .ok (.ifCond .ne 10, 3) := dk_154 0 10 (dk_at dksX7_wish_0 10 rfl rfl)
theorem dX7_wish_13 : decode cX7_wish 13 = .ok (.aload_n 0, 1) := dk_42 (dk_at dksX7_wish_0 13 rfl rfl)
theorem dX7_wish_14 : decode cX7_wish 14 = .ok (.bipush (-2), 2) := dk_16 254 (dk_at dksX7_wish_0 14 rfl rfl)
theorem dX7_wish_16 : decode cX7_wish 16 = .ok (.invokevirtual 125, 3) := dk_182 0 125 (dk_at dksX7_wish_0 16 rfl rfl)
theorem dX7_wish_19 : decode cX7_wish 19 = .ok (.ireturn, 1) := dk_172 (dk_at dksX7_wish_0 19 rfl rfl)
theorem dX7_wish_20 : decode cX7_wish 20 = .ok (.iconst 0, 1) := dk_3 (dk_at dksX7_wish_0 20 rfl rfl)
theorem dX7_wish_21 : decode cX7_wish 21 = .ok (.istore_n 2, 1) := dk_61 (dk_at dksX7_wish_0 21 rfl rfl)
theorem dX7_wish_22 : decode cX7_wish 22 = .ok (.iload_n 2, 1) := dk_28 (dk_at dksX7_wish_0 22 rfl rfl)
theorem dX7_wish_23 : decode cX7_wish 23 = .ok (.aload_n 0, 1) := dk_42 (dk_at dksX7_wish_0 23 rfl rfl)
theorem dX7_wish_24 : decode cX7_wish 24 = .ok (.getfield 471, 3) := dk_180 1 215 (dk_at dksX7_wish_1 0 rfl rfl)
theorem dX7_wish_27 : decode cX7_wish 27 = .ok (.if_icmp .ge 26, 3) := dk_162 0 26 (dk_at dksX7_wish_1 3 rfl rfl)
theorem dX7_wish_30 : decode cX7_wish 30 = .ok (.aload_n 0, 1) := dk_42 (dk_at dksX7_wish_1 6 rfl rfl)
theorem dX7_wish_31 : decode cX7_wish 31 = .ok (.getfield 62, 3) := dk_180 0 62 (dk_at dksX7_wish_1 7 rfl rfl)
theorem dX7_wish_34 : decode cX7_wish 34 = .ok (.iload_n 2, 1) := dk_28 (dk_at dksX7_wish_1 10 rfl rfl)
theorem dX7_wish_35 : decode cX7_wish 35 = .ok (.iaload, 1) := dk_46 (dk_at dksX7_wish_1 11 rfl rfl)
theorem dX7_wish_36 : decode cX7_wish 36 = .ok (.iload_n 1, 1) := dk_27 (dk_at dksX7_wish_1 12 rfl rfl)
theorem dX7_wish_37 : decode cX7_wish 37 = .ok (.if_icmp .ne 10, 3) := dk_160 0 10 (dk_at dksX7_wish_1 13 rfl rfl)
theorem dX7_wish_40 : decode cX7_wish 40 = .ok (.aload_n 0, 1) := dk_42 (dk_at dksX7_wish_1 16 rfl rfl)
theorem dX7_wish_41 : decode cX7_wish 41 = .ok (.bipush (-4), 2) := dk_16 252 (dk_at dksX7_wish_1 17 rfl rfl)
theorem dX7_wish_43 : decode cX7_wish 43 = .ok (.invokevirtual 125, 3) := dk_182 0 125 (dk_at dksX7_wish_1 19 rfl rfl)
theorem dX7_wish_46 : decode cX7_wish 46 = .ok (.ireturn, 1) := dk_172 (dk_at dksX7_wish_1 22 rfl rfl)
theorem dX7_wish_47 : decode cX7_wish 47 = .ok (.iinc 2 1, 3) := dk_132 2 1 (dk_at dksX7_wish_2 0 rfl rfl)
theorem dX7_wish_50 : decode cX7_wish 50 = .ok (.goto (-28), 3) := dk_167 255 228 (dk_at dksX7_wish_2 3 rfl rfl)
theorem dX7_wish_53 : decode cX7_wish 53 = .ok (.aload_n 0, 1) := dk_42 (dk_at dksX7_wish_2 6 rfl rfl)
theorem dX7_wish_54 : decode cX7_wish 54 = .ok (.getfield 471, 3) := dk_180 1 215 (dk_at dksX7_wish_2 7 rfl rfl)
theorem dX7_wish_57 : decode cX7_wish 57 = .ok (.bipush 7, 2) := dk_16 7 (dk_at dksX7_wish_2 10 rfl rfl)
theorem dX7_wish_59 : decode cX7_wish 59 = .ok (.if_icmp .ne 10, 3) := dk_160 0 10 (dk_at dksX7_wish_2 12 rfl rfl)
theorem dX7_wish_62 : decode cX7_wish 62 = .ok (.aload_n 0, 1) := dk_42 (dk_at dksX7_wish_2 15 rfl rfl)
theorem dX7_wish_63 : decode cX7_wish 63 = .ok (.bipush (-5), 2) := dk_16 251 (dk_at dksX7_wish_2 16 rfl rfl)
theorem dX7_wish_65 : decode cX7_wish 65 = .ok (.invokevirtual 125, 3) := dk_182 0 125 (dk_at dksX7_wish_2 18 rfl rfl)
theorem dX7_wish_68 : decode cX7_wish 68 = .ok (.ireturn, 1) := dk_172 (dk_at dksX7_wish_2 21 rfl rfl)
theorem dX7_wish_69 : decode cX7_wish 69 = .ok (.aload_n 0, 1) := dk_42 (dk_at dksX7_wish_2 22 rfl rfl)
theorem dX7_wish_70 : decode cX7_wish 70 = .ok (.getfield 62, 3) := dk_180 0 62 (dk_at dksX7_wish_3 0 rfl rfl)
theorem dX7_wish_73 : decode cX7_wish 73 = .ok (.aload_n 0, 1) := dk_42 (dk_at dksX7_wish_3 3 rfl rfl)
theorem dX7_wish_74 : decode cX7_wish 74 = .ok (.getfield 471, 3) := dk_180 1 215 (dk_at dksX7_wish_3 4 rfl rfl)
theorem dX7_wish_77 : decode cX7_wish 77 = .ok (.iload_n 1, 1) := dk_27 (dk_at dksX7_wish_3 7 rfl rfl)
theorem dX7_wish_78 : decode cX7_wish 78 = .ok (.iastore, 1) := dk_79 (dk_at dksX7_wish_3 8 rfl rfl)
theorem dX7_wish_79 : decode cX7_wish 79 = .ok (.aload_n 0, 1) := dk_42 (dk_at dksX7_wish_3 9 rfl rfl)
theorem dX7_wish_80 : decode cX7_wish 80 = .ok (.getfield 65, 3) := dk_180 0 65 (dk_at dksX7_wish_3 10 rfl rfl)
theorem dX7_wish_83 : decode cX7_wish 83 = .ok (.aload_n 0, 1) := dk_42 (dk_at dksX7_wish_3 13 rfl rfl)
theorem dX7_wish_84 : decode cX7_wish 84 = .ok (.getfield 471, 3) := dk_180 1 215 (dk_at dksX7_wish_3 14 rfl rfl)
theorem dX7_wish_87 : decode cX7_wish 87 = .ok (.iconst 0, 1) := dk_3 (dk_at dksX7_wish_3 17 rfl rfl)
theorem dX7_wish_88 : decode cX7_wish 88 = .ok (.iastore, 1) := dk_79 (dk_at dksX7_wish_3 18 rfl rfl)
theorem dX7_wish_89 : decode cX7_wish 89 = .ok (.aload_n 0, 1) := dk_42 (dk_at dksX7_wish_3 19 rfl rfl)
theorem dX7_wish_90 : decode cX7_wish 90 = .ok (.getfield 68, 3) := dk_180 0 68 (dk_at dksX7_wish_3 20 rfl rfl)
theorem dX7_wish_93 : decode cX7_wish 93 = .ok (.aload_n 0, 1) := dk_42 (dk_at dksX7_wish_3 23 rfl rfl)
theorem dX7_wish_94 : decode cX7_wish 94 = .ok (.getfield 471, 3) := dk_180 1 215 (dk_at dksX7_wish_4 0 rfl rfl)
theorem dX7_wish_97 : decode cX7_wish 97 = .ok (.sipush 399, 3) := dk_17 1 143 (dk_at dksX7_wish_4 3 rfl rfl)
theorem dX7_wish_100 : decode cX7_wish 100 = .ok (.iastore, 1) := dk_79 (dk_at dksX7_wish_4 6 rfl rfl)
theorem dX7_wish_101 : decode cX7_wish 101 = .ok (.aload_n 0, 1) := dk_42 (dk_at dksX7_wish_4 7 rfl rfl)
theorem dX7_wish_102 : decode cX7_wish 102 = .ok (.dup, 1) := dk_89 (dk_at dksX7_wish_4 8 rfl rfl)
theorem dX7_wish_103 : decode cX7_wish 103 = .ok (.getfield 471, 3) := dk_180 1 215 (dk_at dksX7_wish_4 9 rfl rfl)
theorem dX7_wish_106 : decode cX7_wish 106 = .ok (.iconst 1, 1) := dk_4 (dk_at dksX7_wish_4 12 rfl rfl)
theorem dX7_wish_107 : decode cX7_wish 107 = .ok (.iadd, 1) := dk_96 (dk_at dksX7_wish_4 13 rfl rfl)
theorem dX7_wish_108 : decode cX7_wish 108 = .ok (.putfield 471, 3) := dk_181 1 215 (dk_at dksX7_wish_4 14 rfl rfl)
theorem dX7_wish_111 : decode cX7_wish 111 = .ok (.aload_n 0, 1) := dk_42 (dk_at dksX7_wish_4 17 rfl rfl)
theorem dX7_wish_112 : decode cX7_wish 112 = .ok (.aload_n 0, 1) := dk_42 (dk_at dksX7_wish_4 18 rfl rfl)
theorem dX7_wish_113 : decode cX7_wish 113 = .ok (.getfield 471, 3) := dk_180 1 215 (dk_at dksX7_wish_4 19 rfl rfl)
theorem dX7_wish_116 : decode cX7_wish 116 = .ok (.invokevirtual 125, 3) := dk_182 0 125 (dk_at dksX7_wish_5 0 rfl rfl)
theorem dX7_wish_119 : decode cX7_wish 119 = .ok (.ireturn, 1) := dk_172 (dk_at dksX7_wish_5 3 rfl rfl)
def dkwX7_clear_0 : List UInt8 := [42, 3, 181, 0, 113, 42, 180, 1, 215, 60, 42, 3, 181, 1, 215, 27, 172]
abbrev dktX7_clear_0 : List UInt8 := dkwX7_clear_0 ++ []
theorem dksX7_clear_0 : cX7_clear.data.toList.drop 0 = dktX7_clear_0 := by decide +kernel
theorem dX7_clear_0 : decode cX7_clear 0 = .ok (.aload_n 0, 1) := dk_42 (dk_at dksX7_clear_0 0 rfl rfl)
theorem dX7_clear_1 : decode cX7_clear 1 = .ok (.iconst 0, 1) := dk_3 (dk_at dksX7_clear_0 1 rfl rfl)
theorem dX7_clear_2 : decode cX7_clear 2 = .ok (.putfield 113, 3) := dk_181 0 113 (dk_at dksX7_clear_0 2 rfl rfl)
theorem dX7_clear_5 : decode cX7_clear 5 = .ok (.aload_n 0, 1) := dk_42 (dk_at dksX7_clear_0 5 rfl rfl)
theorem dX7_clear_6 : decode cX7_clear 6 = .ok (.getfield 471, 3) := dk_180 1 215 (dk_at dksX7_clear_0 6 rfl rfl)
theorem dX7_clear_9 : decode cX7_clear 9 = .ok (.istore_n 1, 1) := dk_60 (dk_at dksX7_clear_0 9 rfl rfl)
theorem dX7_clear_10 : decode cX7_clear 10 = .ok (.aload_n 0, 1) := dk_42 (dk_at dksX7_clear_0 10 rfl rfl)
theorem dX7_clear_11 : decode cX7_clear 11 = .ok (.iconst 0, 1) := dk_3 (dk_at dksX7_clear_0 11 rfl rfl)
theorem dX7_clear_12 : decode cX7_clear 12 = .ok (.putfield 471, 3) := dk_181 1 215 (dk_at dksX7_clear_0 12 rfl rfl)
theorem dX7_clear_15 : decode cX7_clear 15 = .ok (.iload_n 1, 1) := dk_27 (dk_at dksX7_clear_0 15 rfl rfl)
theorem dX7_clear_16 : decode cX7_clear 16 = .ok (.ireturn, 1) := dk_172 (dk_at dksX7_clear_0 16 rfl rfl)
def dkwX7_booths_7 : List UInt8 := [181, 1, 237, 42, 42, 180, 1, 215, 181, 1, 240, 42, 21, 5, 181, 1, 243, 29, 172]
abbrev dktX7_booths_7 : List UInt8 := dkwX7_booths_7 ++ []
def dkwX7_booths_6 : List UInt8 := [21, 8, 46, 79, 132, 8, 1, 167, 255, 230, 132, 6, 1, 167, 255, 145, 29, 2, 159, 0, 22, 42, 4]
abbrev dktX7_booths_6 : List UInt8 := dkwX7_booths_6 ++ dktX7_booths_7
def dkwX7_booths_5 : List UInt8 := [54, 5, 3, 54, 8, 21, 8, 42, 180, 1, 215, 162, 0, 23, 42, 180, 0, 86, 21, 8, 42, 180, 0, 83]
abbrev dktX7_booths_5 : List UInt8 := dkwX7_booths_5 ++ dktX7_booths_6
def dkwX7_booths_4 : List UInt8 := [21, 4, 161, 0, 10, 21, 7, 21, 5, 162, 0, 49, 21, 6, 62, 21, 6, 184, 1, 231, 54, 4, 21, 7]
abbrev dktX7_booths_4 : List UInt8 := dkwX7_booths_4 ++ dktX7_booths_5
def dkwX7_booths_3 : List UInt8 := [42, 21, 6, 182, 1, 234, 54, 7, 21, 7, 2, 159, 0, 71, 29, 2, 159, 0, 20, 21, 6, 184, 1, 231]
abbrev dktX7_booths_3 : List UInt8 := dkwX7_booths_3 ++ dktX7_booths_4
def dkwX7_booths_2 : List UInt8 := [4, 42, 180, 1, 215, 120, 162, 0, 106, 29, 2, 159, 0, 13, 21, 6, 184, 1, 231, 21, 4, 163, 0, 85]
abbrev dktX7_booths_2 : List UInt8 := dkwX7_booths_2 ++ dktX7_booths_3
def dkwX7_booths_1 : List UInt8 := [154, 0, 5, 2, 172, 42, 27, 28, 182, 1, 228, 2, 62, 3, 54, 4, 3, 54, 5, 3, 54, 6, 21, 6]
abbrev dktX7_booths_1 : List UInt8 := dkwX7_booths_1 ++ dktX7_booths_2
def dkwX7_booths_0 : List UInt8 := [42, 3, 181, 0, 113, 27, 184, 0, 159, 153, 0, 17, 28, 184, 0, 159, 153, 0, 10, 42, 182, 1, 225]
abbrev dktX7_booths_0 : List UInt8 := dkwX7_booths_0 ++ dktX7_booths_1
theorem dksX7_booths_0 : cX7_booths.data.toList.drop 0 = dktX7_booths_0 := by decide +kernel
theorem dksX7_booths_1 : cX7_booths.data.toList.drop 23 = dktX7_booths_1 := dk_seg dksX7_booths_0 23 rfl rfl
theorem dksX7_booths_2 : cX7_booths.data.toList.drop 47 = dktX7_booths_2 := dk_seg dksX7_booths_1 24 rfl rfl
theorem dksX7_booths_3 : cX7_booths.data.toList.drop 71 = dktX7_booths_3 := dk_seg dksX7_booths_2 24 rfl rfl
theorem dksX7_booths_4 : cX7_booths.data.toList.drop 95 = dktX7_booths_4 := dk_seg dksX7_booths_3 24 rfl rfl
theorem dksX7_booths_5 : cX7_booths.data.toList.drop 119 = dktX7_booths_5 := dk_seg dksX7_booths_4 24 rfl rfl
theorem dksX7_booths_6 : cX7_booths.data.toList.drop 143 = dktX7_booths_6 := dk_seg dksX7_booths_5 24 rfl rfl
theorem dksX7_booths_7 : cX7_booths.data.toList.drop 166 = dktX7_booths_7 := dk_seg dksX7_booths_6 23 rfl rfl
theorem dX7_booths_0 : decode cX7_booths 0 = .ok (.aload_n 0, 1) := dk_42 (dk_at dksX7_booths_0 0 rfl rfl)
theorem dX7_booths_1 : decode cX7_booths 1 = .ok (.iconst 0, 1) := dk_3 (dk_at dksX7_booths_0 1 rfl rfl)
theorem dX7_booths_2 : decode cX7_booths 2 = .ok (.putfield 113, 3) := dk_181 0 113 (dk_at dksX7_booths_0 2 rfl rfl)
theorem dX7_booths_5 : decode cX7_booths 5 = .ok (.iload_n 1, 1) := dk_27 (dk_at dksX7_booths_0 5 rfl rfl)
theorem dX7_booths_6 : decode cX7_booths 6 = .ok (.invokestatic 159, 3) := dk_184 0 159 (dk_at dksX7_booths_0 6 rfl rfl)
theorem dX7_booths_9 : decode cX7_booths 9 = .ok (.ifCond .eq 17, 3) := dk_153 0 17 (dk_at dksX7_booths_0 9 rfl rfl)
theorem dX7_booths_12 : decode cX7_booths 12 = .ok (.iload_n 2, 1) := dk_28 (dk_at dksX7_booths_0 12 rfl rfl)
theorem dX7_booths_13 : decode cX7_booths 13 = .ok (.invokestatic 159, 3) := dk_184 0 159 (dk_at dksX7_booths_0 13 rfl rfl)
theorem dX7_booths_16 : decode cX7_booths 16 = .ok (.ifCond .eq 10, 3) := dk_153 0 10 (dk_at dksX7_booths_0 16 rfl rfl)
theorem dX7_booths_19 : decode cX7_booths 19 = .ok (.aload_n 0, 1) := dk_42 (dk_at dksX7_booths_0 19 rfl rfl)
theorem dX7_booths_20 : decode cX7_booths 20 = .ok (.invokevirtual 481, 3) := dk_182 1 225 (dk_at dksX7_booths_0 20 rfl rfl)
theorem dX7_booths_23 : decode cX7_booths 23 = .ok (.ifCond .ne 5, 3) := dk_154 0 5 (dk_at dksX7_booths_1 0 rfl rfl)
theorem dX7_booths_26 : decode cX7_booths 26 = .ok (.iconst (-1), 1) := dk_2 (dk_at dksX7_booths_1 3 rfl rfl)
theorem dX7_booths_27 : decode cX7_booths 27 = .ok (.ireturn, 1) := dk_172 (dk_at dksX7_booths_1 4 rfl rfl)
theorem dX7_booths_28 : decode cX7_booths 28 = .ok (.aload_n 0, 1) := dk_42 (dk_at dksX7_booths_1 5 rfl rfl)
theorem dX7_booths_29 : decode cX7_booths 29 = .ok (.iload_n 1, 1) := dk_27 (dk_at dksX7_booths_1 6 rfl rfl)
theorem dX7_booths_30 : decode cX7_booths 30 = .ok (.iload_n 2, 1) := dk_28 (dk_at dksX7_booths_1 7 rfl rfl)
theorem dX7_booths_31 : decode cX7_booths 31 = .ok (.invokevirtual 484, 3) := dk_182 1 228 (dk_at dksX7_booths_1 8 rfl rfl)
theorem dX7_booths_34 : decode cX7_booths 34 = .ok (.iconst (-1), 1) := dk_2 (dk_at dksX7_booths_1 11 rfl rfl)
theorem dX7_booths_35 : decode cX7_booths 35 = .ok (.istore_n 3, 1) := dk_62 (dk_at dksX7_booths_1 12 rfl rfl)
theorem dX7_booths_36 : decode cX7_booths 36 = .ok (.iconst 0, 1) := dk_3 (dk_at dksX7_booths_1 13 rfl rfl)
theorem dX7_booths_37 : decode cX7_booths 37 = .ok (.istore 4, 2) := dk_54 4 (dk_at dksX7_booths_1 14 rfl rfl)
theorem dX7_booths_39 : decode cX7_booths 39 = .ok (.iconst 0, 1) := dk_3 (dk_at dksX7_booths_1 16 rfl rfl)
theorem dX7_booths_40 : decode cX7_booths 40 = .ok (.istore 5, 2) := dk_54 5 (dk_at dksX7_booths_1 17 rfl rfl)
theorem dX7_booths_42 : decode cX7_booths 42 = .ok (.iconst 0, 1) := dk_3 (dk_at dksX7_booths_1 19 rfl rfl)
theorem dX7_booths_43 : decode cX7_booths 43 = .ok (.istore 6, 2) := dk_54 6 (dk_at dksX7_booths_1 20 rfl rfl)
theorem dX7_booths_45 : decode cX7_booths 45 = .ok (.iload 6, 2) := dk_21 6 (dk_at dksX7_booths_1 22 rfl rfl)
theorem dX7_booths_47 : decode cX7_booths 47 = .ok (.iconst 1, 1) := dk_4 (dk_at dksX7_booths_2 0 rfl rfl)
theorem dX7_booths_48 : decode cX7_booths 48 = .ok (.aload_n 0, 1) := dk_42 (dk_at dksX7_booths_2 1 rfl rfl)
theorem dX7_booths_49 : decode cX7_booths 49 = .ok (.getfield 471, 3) := dk_180 1 215 (dk_at dksX7_booths_2 2 rfl rfl)
theorem dX7_booths_52 : decode cX7_booths 52 = .ok (.ishl, 1) := dk_120 (dk_at dksX7_booths_2 5 rfl rfl)
theorem dX7_booths_53 : decode cX7_booths 53 = .ok (.if_icmp .ge 106, 3) := dk_162 0 106 (dk_at dksX7_booths_2 6 rfl rfl)
theorem dX7_booths_56 : decode cX7_booths 56 = .ok (.iload_n 3, 1) := dk_29 (dk_at dksX7_booths_2 9 rfl rfl)
theorem dX7_booths_57 : decode cX7_booths 57 = .ok (.iconst (-1), 1) := dk_2 (dk_at dksX7_booths_2 10 rfl rfl)
theorem dX7_booths_58 : decode cX7_booths 58 = .ok (.if_icmp .eq 13, 3) := dk_159 0 13 (dk_at dksX7_booths_2 11 rfl rfl)
theorem dX7_booths_61 : decode cX7_booths 61 = .ok (.iload 6, 2) := dk_21 6 (dk_at dksX7_booths_2 14 rfl rfl)
theorem dX7_booths_63 : decode cX7_booths 63 = .ok (.invokestatic 487, 3) := dk_184 1 231 (dk_at dksX7_booths_2 16 rfl rfl)
theorem dX7_booths_66 : decode cX7_booths 66 = .ok (.iload 4, 2) := dk_21 4 (dk_at dksX7_booths_2 19 rfl rfl)
theorem dX7_booths_68 : decode cX7_booths 68 = .ok (.if_icmp .gt 85, 3) := dk_163 0 85 (dk_at dksX7_booths_2 21 rfl rfl)
theorem dX7_booths_71 : decode cX7_booths 71 = .ok (.aload_n 0, 1) := dk_42 (dk_at dksX7_booths_3 0 rfl rfl)
theorem dX7_booths_72 : decode cX7_booths 72 = .ok (.iload 6, 2) := dk_21 6 (dk_at dksX7_booths_3 1 rfl rfl)
theorem dX7_booths_74 : decode cX7_booths 74 = .ok (.invokevirtual 490, 3) := dk_182 1 234 (dk_at dksX7_booths_3 3 rfl rfl)
theorem dX7_booths_77 : decode cX7_booths 77 = .ok (.istore 7, 2) := dk_54 7 (dk_at dksX7_booths_3 6 rfl rfl)
theorem dX7_booths_79 : decode cX7_booths 79 = .ok (.iload 7, 2) := dk_21 7 (dk_at dksX7_booths_3 8 rfl rfl)
theorem dX7_booths_81 : decode cX7_booths 81 = .ok (.iconst (-1), 1) := dk_2 (dk_at dksX7_booths_3 10 rfl rfl)
theorem dX7_booths_82 : decode cX7_booths 82 = .ok (.if_icmp .eq 71, 3) := dk_159 0 71 (dk_at dksX7_booths_3 11 rfl rfl)
theorem dX7_booths_85 : decode cX7_booths 85 = .ok (.iload_n 3, 1) := dk_29 (dk_at dksX7_booths_3 14 rfl rfl)
theorem dX7_booths_86 : decode cX7_booths 86 = .ok (.iconst (-1), 1) := dk_2 (dk_at dksX7_booths_3 15 rfl rfl)
theorem dX7_booths_87 : decode cX7_booths 87 = .ok (.if_icmp .eq 20, 3) := dk_159 0 20 (dk_at dksX7_booths_3 16 rfl rfl)
theorem dX7_booths_90 : decode cX7_booths 90 = .ok (.iload 6, 2) := dk_21 6 (dk_at dksX7_booths_3 19 rfl rfl)
theorem dX7_booths_92 : decode cX7_booths 92 = .ok (.invokestatic 487, 3) := dk_184 1 231 (dk_at dksX7_booths_3 21 rfl rfl)
theorem dX7_booths_95 : decode cX7_booths 95 = .ok (.iload 4, 2) := dk_21 4 (dk_at dksX7_booths_4 0 rfl rfl)
theorem dX7_booths_97 : decode cX7_booths 97 = .ok (.if_icmp .lt 10, 3) := dk_161 0 10 (dk_at dksX7_booths_4 2 rfl rfl)
theorem dX7_booths_100 : decode cX7_booths 100 = .ok (.iload 7, 2) := dk_21 7 (dk_at dksX7_booths_4 5 rfl rfl)
theorem dX7_booths_102 : decode cX7_booths 102 = .ok (.iload 5, 2) := dk_21 5 (dk_at dksX7_booths_4 7 rfl rfl)
theorem dX7_booths_104 : decode cX7_booths 104 = .ok (.if_icmp .ge 49, 3) := dk_162 0 49 (dk_at dksX7_booths_4 9 rfl rfl)
theorem dX7_booths_107 : decode cX7_booths 107 = .ok (.iload 6, 2) := dk_21 6 (dk_at dksX7_booths_4 12 rfl rfl)
theorem dX7_booths_109 : decode cX7_booths 109 = .ok (.istore_n 3, 1) := dk_62 (dk_at dksX7_booths_4 14 rfl rfl)
theorem dX7_booths_110 : decode cX7_booths 110 = .ok (.iload 6, 2) := dk_21 6 (dk_at dksX7_booths_4 15 rfl rfl)
theorem dX7_booths_112 : decode cX7_booths 112 = .ok (.invokestatic 487, 3) := dk_184 1 231 (dk_at dksX7_booths_4 17 rfl rfl)
theorem dX7_booths_115 : decode cX7_booths 115 = .ok (.istore 4, 2) := dk_54 4 (dk_at dksX7_booths_4 20 rfl rfl)
theorem dX7_booths_117 : decode cX7_booths 117 = .ok (.iload 7, 2) := dk_21 7 (dk_at dksX7_booths_4 22 rfl rfl)
theorem dX7_booths_119 : decode cX7_booths 119 = .ok (.istore 5, 2) := dk_54 5 (dk_at dksX7_booths_5 0 rfl rfl)
theorem dX7_booths_121 : decode cX7_booths 121 = .ok (.iconst 0, 1) := dk_3 (dk_at dksX7_booths_5 2 rfl rfl)
theorem dX7_booths_122 : decode cX7_booths 122 = .ok (.istore 8, 2) := dk_54 8 (dk_at dksX7_booths_5 3 rfl rfl)
theorem dX7_booths_124 : decode cX7_booths 124 = .ok (.iload 8, 2) := dk_21 8 (dk_at dksX7_booths_5 5 rfl rfl)
theorem dX7_booths_126 : decode cX7_booths 126 = .ok (.aload_n 0, 1) := dk_42 (dk_at dksX7_booths_5 7 rfl rfl)
theorem dX7_booths_127 : decode cX7_booths 127 = .ok (.getfield 471, 3) := dk_180 1 215 (dk_at dksX7_booths_5 8 rfl rfl)
theorem dX7_booths_130 : decode cX7_booths 130 = .ok (.if_icmp .ge 23, 3) := dk_162 0 23 (dk_at dksX7_booths_5 11 rfl rfl)
theorem dX7_booths_133 : decode cX7_booths 133 = .ok (.aload_n 0, 1) := dk_42 (dk_at dksX7_booths_5 14 rfl rfl)
theorem dX7_booths_134 : decode cX7_booths 134 = .ok (.getfield 86, 3) := dk_180 0 86 (dk_at dksX7_booths_5 15 rfl rfl)
theorem dX7_booths_137 : decode cX7_booths 137 = .ok (.iload 8, 2) := dk_21 8 (dk_at dksX7_booths_5 18 rfl rfl)
theorem dX7_booths_139 : decode cX7_booths 139 = .ok (.aload_n 0, 1) := dk_42 (dk_at dksX7_booths_5 20 rfl rfl)
theorem dX7_booths_140 : decode cX7_booths 140 = .ok (.getfield 83, 3) := dk_180 0 83 (dk_at dksX7_booths_5 21 rfl rfl)
theorem dX7_booths_143 : decode cX7_booths 143 = .ok (.iload 8, 2) := dk_21 8 (dk_at dksX7_booths_6 0 rfl rfl)
theorem dX7_booths_145 : decode cX7_booths 145 = .ok (.iaload, 1) := dk_46 (dk_at dksX7_booths_6 2 rfl rfl)
theorem dX7_booths_146 : decode cX7_booths 146 = .ok (.iastore, 1) := dk_79 (dk_at dksX7_booths_6 3 rfl rfl)
theorem dX7_booths_147 : decode cX7_booths 147 = .ok (.iinc 8 1, 3) := dk_132 8 1 (dk_at dksX7_booths_6 4 rfl rfl)
theorem dX7_booths_150 : decode cX7_booths 150 = .ok (.goto (-26), 3) := dk_167 255 230 (dk_at dksX7_booths_6 7 rfl rfl)
theorem dX7_booths_153 : decode cX7_booths 153 = .ok (.iinc 6 1, 3) := dk_132 6 1 (dk_at dksX7_booths_6 10 rfl rfl)
theorem dX7_booths_156 : decode cX7_booths 156 = .ok (.goto (-111), 3) := dk_167 255 145 (dk_at dksX7_booths_6 13 rfl rfl)
theorem dX7_booths_159 : decode cX7_booths 159 = .ok (.iload_n 3, 1) := dk_29 (dk_at dksX7_booths_6 16 rfl rfl)
theorem dX7_booths_160 : decode cX7_booths 160 = .ok (.iconst (-1), 1) := dk_2 (dk_at dksX7_booths_6 17 rfl rfl)
theorem dX7_booths_161 : decode cX7_booths 161 = .ok (.if_icmp .eq 22, 3) := dk_159 0 22 (dk_at dksX7_booths_6 18 rfl rfl)
theorem dX7_booths_164 : decode cX7_booths 164 = .ok (.aload_n 0, 1) := dk_42 (dk_at dksX7_booths_6 21 rfl rfl)
theorem dX7_booths_165 : decode cX7_booths 165 = .ok (.iconst 1, 1) := dk_4 (dk_at dksX7_booths_6 22 rfl rfl)
theorem dX7_booths_166 : decode cX7_booths 166 = .ok (.putfield 493, 3) := dk_181 1 237 (dk_at dksX7_booths_7 0 rfl rfl)
theorem dX7_booths_169 : decode cX7_booths 169 = .ok (.aload_n 0, 1) := dk_42 (dk_at dksX7_booths_7 3 rfl rfl)
theorem dX7_booths_170 : decode cX7_booths 170 = .ok (.aload_n 0, 1) := dk_42 (dk_at dksX7_booths_7 4 rfl rfl)
theorem dX7_booths_171 : decode cX7_booths 171 = .ok (.getfield 471, 3) := dk_180 1 215 (dk_at dksX7_booths_7 5 rfl rfl)
theorem dX7_booths_174 : decode cX7_booths 174 = .ok (.putfield 496, 3) := dk_181 1 240 (dk_at dksX7_booths_7 8 rfl rfl)
theorem dX7_booths_177 : decode cX7_booths 177 = .ok (.aload_n 0, 1) := dk_42 (dk_at dksX7_booths_7 11 rfl rfl)
theorem dX7_booths_178 : decode cX7_booths 178 = .ok (.iload 5, 2) := dk_21 5 (dk_at dksX7_booths_7 12 rfl rfl)
theorem dX7_booths_180 : decode cX7_booths 180 = .ok (.putfield 499, 3) := dk_181 1 243 (dk_at dksX7_booths_7 14 rfl rfl)
theorem dX7_booths_183 : decode cX7_booths 183 = .ok (.iload_n 3, 1) := dk_29 (dk_at dksX7_booths_7 17 rfl rfl)
theorem dX7_booths_184 : decode cX7_booths 184 = .ok (.ireturn, 1) := dk_172 (dk_at dksX7_booths_7 18 rfl rfl)
def dkwX7_areThere_1 : List UInt8 := [182, 0, 162, 153, 0, 7, 4, 167, 0, 4, 3, 60, 132, 2, 1, 167, 255, 222, 27, 172]
abbrev dktX7_areThere_1 : List UInt8 := dkwX7_areThere_1 ++ []
def dkwX7_areThere_0 : List UInt8 := [4, 60, 3, 61, 28, 42, 180, 1, 215, 162, 0, 32, 27, 153, 0, 20, 42, 42, 180, 0, 62, 28, 46]
abbrev dktX7_areThere_0 : List UInt8 := dkwX7_areThere_0 ++ dktX7_areThere_1
theorem dksX7_areThere_0 : cX7_areThere.data.toList.drop 0 = dktX7_areThere_0 := by decide +kernel
theorem dksX7_areThere_1 : cX7_areThere.data.toList.drop 23 = dktX7_areThere_1 := dk_seg dksX7_areThere_0 23 rfl rfl
theorem dX7_areThere_0 : decode cX7_areThere 0 = .ok (.iconst 1, 1) := dk_4 (dk_at dksX7_areThere_0 0 rfl rfl)
theorem dX7_areThere_1 : decode cX7_areThere 1 = .ok (.istore_n 1, 1) := dk_60 (dk_at dksX7_areThere_0 1 rfl rfl)
theorem dX7_areThere_2 : decode cX7_areThere 2 = .ok (.iconst 0, 1) := dk_3 (dk_at dksX7_areThere_0 2 rfl rfl)
theorem dX7_areThere_3 : decode cX7_areThere 3 = .ok (.istore_n 2, 1) := dk_61 (dk_at dksX7_areThere_0 3 rfl rfl)
theorem dX7_areThere_4 : decode cX7_areThere 4 = .ok (.iload_n 2, 1) := dk_28 (dk_at dksX7_areThere_0 4 rfl rfl)
theorem dX7_areThere_5 : decode cX7_areThere 5 = .ok (.aload_n 0, 1) := dk_42 (dk_at dksX7_areThere_0 5 rfl rfl)
theorem dX7_areThere_6 : decode cX7_areThere 6 = .ok (.getfield 471, 3) := dk_180 1 215 (dk_at dksX7_areThere_0 6 rfl rfl)
theorem dX7_areThere_9 : decode cX7_areThere 9 = .ok (.if_icmp .ge 32, 3) := dk_162 0 32 (dk_at dksX7_areThere_0 9 rfl rfl)
theorem dX7_areThere_12 : decode cX7_areThere 12 = .ok (.iload_n 1, 1) := dk_27 (dk_at dksX7_areThere_0 12 rfl rfl)
theorem dX7_areThere_13 : decode cX7_areThere 13 = .ok (.ifCond .eq 20, 3) := dk_153 0 20 (dk_at dksX7_areThere_0 13 rfl rfl)
theorem dX7_areThere_16 : decode cX7_areThere 16 = .ok (.aload_n 0, 1) := dk_42 (dk_at dksX7_areThere_0 16 rfl rfl)
theorem dX7_areThere_17 : decode cX7_areThere 17 = .ok (.aload_n 0, 1) := dk_42 (dk_at dksX7_areThere_0 17 rfl rfl)
theorem dX7_areThere_18 : decode cX7_areThere 18 = .ok (.getfield 62, 3) := dk_180 0 62 (dk_at dksX7_areThere_0 18 rfl rfl)
theorem dX7_areThere_21 : decode cX7_areThere 21 = .ok (.iload_n 2, 1) := dk_28 (dk_at dksX7_areThere_0 21 rfl rfl)
theorem dX7_areThere_22 : decode cX7_areThere 22 = .ok (.iaload, 1) := dk_46 (dk_at dksX7_areThere_0 22 rfl rfl)
theorem dX7_areThere_23 : decode cX7_areThere 23 = .ok (.invokevirtual 162, 3) := dk_182 0 162 (dk_at dksX7_areThere_1 0 rfl rfl)
theorem dX7_areThere_26 : decode cX7_areThere 26 = .ok (.ifCond .eq 7, 3) := dk_153 0 7 (dk_at dksX7_areThere_1 3 rfl rfl)
theorem dX7_areThere_29 : decode cX7_areThere 29 = .ok (.iconst 1, 1) := dk_4 (dk_at dksX7_areThere_1 6 rfl rfl)
theorem dX7_areThere_30 : decode cX7_areThere 30 = .ok (.goto 4, 3) := dk_167 0 4 (dk_at dksX7_areThere_1 7 rfl rfl)
theorem dX7_areThere_33 : decode cX7_areThere 33 = .ok (.iconst 0, 1) := dk_3 (dk_at dksX7_areThere_1 10 rfl rfl)
theorem dX7_areThere_34 : decode cX7_areThere 34 = .ok (.istore_n 1, 1) := dk_60 (dk_at dksX7_areThere_1 11 rfl rfl)
theorem dX7_areThere_35 : decode cX7_areThere 35 = .ok (.iinc 2 1, 3) := dk_132 2 1 (dk_at dksX7_areThere_1 12 rfl rfl)
theorem dX7_areThere_38 : decode cX7_areThere 38 = .ok (.goto (-34), 3) := dk_167 255 222 (dk_at dksX7_areThere_1 15 rfl rfl)
theorem dX7_areThere_41 : decode cX7_areThere 41 = .ok (.iload_n 1, 1) := dk_27 (dk_at dksX7_areThere_1 18 rfl rfl)
theorem dX7_areThere_42 : decode cX7_areThere 42 = .ok (.ireturn, 1) := dk_172 (dk_at dksX7_areThere_1 19 rfl rfl)
def dkwX7_setRules_2 : List UInt8 := [16, 6, 17, 0, 200, 182, 1, 212, 79, 42, 180, 0, 77, 29, 3, 79, 132, 3, 1, 167, 255, 199, 177]
abbrev dktX7_setRules_2 : List UInt8 := dkwX7_setRules_2 ++ []
def dkwX7_setRules_1 : List UInt8 := [182, 1, 176, 42, 180, 0, 71, 29, 42, 8, 17, 3, 232, 182, 1, 212, 79, 42, 180, 0, 74, 29, 42]
abbrev dktX7_setRules_1 : List UInt8 := dkwX7_setRules_1 ++ dktX7_setRules_2
def dkwX7_setRules_0 : List UInt8 := [42, 27, 28, 182, 0, 205, 3, 62, 29, 42, 180, 1, 215, 162, 0, 55, 42, 42, 180, 0, 62, 29, 46]
abbrev dktX7_setRules_0 : List UInt8 := dkwX7_setRules_0 ++ dktX7_setRules_1
theorem dksX7_setRules_0 : cX7_setRules.data.toList.drop 0 = dktX7_setRules_0 := by decide +kernel
theorem dksX7_setRules_1 : cX7_setRules.data.toList.drop 23 = dktX7_setRules_1 := dk_seg dksX7_setRules_0 23 rfl rfl
theorem dksX7_setRules_2 : cX7_setRules.data.toList.drop 46 = dktX7_setRules_2 := dk_seg dksX7_setRules_1 23 rfl rfl
theorem dX7_setRules_0 : decode cX7_setRules 0 = .ok (.aload_n 0, 1) := dk_42 (dk_at dksX7_setRules_0 0 rfl rfl)
theorem dX7_setRules_1 : decode cX7_setRules 1 = .ok (.iload_n 1, 1) := dk_27 (dk_at dksX7_setRules_0 1 rfl rfl)
theorem dX7_setRules_2 : decode cX7_setRules 2 = .ok (.iload_n 2, 1) := dk_28 (dk_at dksX7_setRules_0 2 rfl rfl)
theorem dX7_setRules_3 : decode cX7_setRules 3 = .ok (.invokevirtual 205, 3) := dk_182 0 205 (dk_at dksX7_setRules_0 3 rfl rfl)
theorem dX7_setRules_6 : decode cX7_setRules 6 = .ok (.iconst 0, 1) := dk_3 (dk_at dksX7_setRules_0 6 rfl rfl)
theorem dX7_setRules_7 : decode cX7_setRules 7 = .ok (.istore_n 3, 1) := dk_62 (dk_at dksX7_setRules_0 7 rfl rfl)
theorem dX7_setRules_8 : decode cX7_setRules 8 = .ok (.iload_n 3, 1) := dk_29 (dk_at dksX7_setRules_0 8 rfl rfl)
theorem dX7_setRules_9 : decode cX7_setRules 9 = .ok (.aload_n 0, 1) := dk_42 (dk_at dksX7_setRules_0 9 rfl rfl)
theorem dX7_setRules_10 : decode cX7_setRules 10 = .ok (.getfield 471, 3) := dk_180 1 215 (dk_at dksX7_setRules_0 10 rfl rfl)
theorem dX7_setRules_13 : decode cX7_setRules 13 = .ok (.if_icmp .ge 55, 3) := dk_162 0 55 (dk_at dksX7_setRules_0 13 rfl rfl)
theorem dX7_setRules_16 : decode cX7_setRules 16 = .ok (.aload_n 0, 1) := dk_42 (dk_at dksX7_setRules_0 16 rfl rfl)
theorem dX7_setRules_17 : decode cX7_setRules 17 = .ok (.aload_n 0, 1) := dk_42 (dk_at dksX7_setRules_0 17 rfl rfl)
theorem dX7_setRules_18 : decode cX7_setRules 18 = .ok (.getfield 62, 3) := dk_180 0 62 (dk_at dksX7_setRules_0 18 rfl rfl)
theorem dX7_setRules_21 : decode cX7_setRules 21 = .ok (.iload_n 3, 1) := dk_29 (dk_at dksX7_setRules_0 21 rfl rfl)
theorem dX7_setRules_22 : decode cX7_setRules 22 = .ok (.iaload, 1) := dk_46 (dk_at dksX7_setRules_0 22 rfl rfl)
theorem dX7_setRules_23 : decode cX7_setRules 23 = .ok (.invokevirtual 432, 3) := dk_182 1 176 (dk_at dksX7_setRules_1 0 rfl rfl)
theorem dX7_setRules_26 : decode cX7_setRules 26 = .ok (.aload_n 0, 1) := dk_42 (dk_at dksX7_setRules_1 3 rfl rfl)
theorem dX7_setRules_27 : decode cX7_setRules 27 = .ok (.getfield 71, 3) := dk_180 0 71 (dk_at dksX7_setRules_1 4 rfl rfl)
theorem dX7_setRules_30 : decode cX7_setRules 30 = .ok (.iload_n 3, 1) := dk_29 (dk_at dksX7_setRules_1 7 rfl rfl)
theorem dX7_setRules_31 : decode cX7_setRules 31 = .ok (.aload_n 0, 1) := dk_42 (dk_at dksX7_setRules_1 8 rfl rfl)
theorem dX7_setRules_32 : decode cX7_setRules 32 = .ok (.iconst 5, 1) := dk_8 (dk_at dksX7_setRules_1 9 rfl rfl)
theorem dX7_setRules_33 : decode cX7_setRules 33 = .ok (.sipush 1000, 3) := dk_17 3 232 (dk_at dksX7_setRules_1 10 rfl rfl)
theorem dX7_setRules_36 : decode cX7_setRules 36 = .ok (.invokevirtual 468, 3) := dk_182 1 212 (dk_at dksX7_setRules_1 13 rfl rfl)
theorem dX7_setRules_39 : decode cX7_setRules 39 = .ok (.iastore, 1) := dk_79 (dk_at dksX7_setRules_1 16 rfl rfl)
theorem dX7_setRules_40 : decode cX7_setRules 40 = .ok (.aload_n 0, 1) := dk_42 (dk_at dksX7_setRules_1 17 rfl rfl)
theorem dX7_setRules_41 : decode cX7_setRules 41 = .ok (.getfield 74, 3) := dk_180 0 74 (dk_at dksX7_setRules_1 18 rfl rfl)
theorem dX7_setRules_44 : decode cX7_setRules 44 = .ok (.iload_n 3, 1) := dk_29 (dk_at dksX7_setRules_1 21 rfl rfl)
theorem dX7_setRules_45 : decode cX7_setRules 45 = .ok (.aload_n 0, 1) := dk_42 (dk_at dksX7_setRules_1 22 rfl rfl)
theorem dX7_setRules_46 : decode cX7_setRules 46 = .ok (.bipush 6, 2) := dk_16 6 (dk_at dksX7_setRules_2 0 rfl rfl)
theorem dX7_setRules_48 : decode cX7_setRules 48 = .ok (.sipush 200, 3) := dk_17 0 200 (dk_at dksX7_setRules_2 2 rfl rfl)
theorem dX7_setRules_51 : decode cX7_setRules 51 = .ok (.invokevirtual 468, 3) := dk_182 1 212 (dk_at dksX7_setRules_2 5 rfl rfl)
theorem dX7_setRules_54 : decode cX7_setRules 54 = .ok (.iastore, 1) := dk_79 (dk_at dksX7_setRules_2 8 rfl rfl)
theorem dX7_setRules_55 : decode cX7_setRules 55 = .ok (.aload_n 0, 1) := dk_42 (dk_at dksX7_setRules_2 9 rfl rfl)
theorem dX7_setRules_56 : decode cX7_setRules 56 = .ok (.getfield 77, 3) := dk_180 0 77 (dk_at dksX7_setRules_2 10 rfl rfl)
theorem dX7_setRules_59 : decode cX7_setRules 59 = .ok (.iload_n 3, 1) := dk_29 (dk_at dksX7_setRules_2 13 rfl rfl)
theorem dX7_setRules_60 : decode cX7_setRules 60 = .ok (.iconst 0, 1) := dk_3 (dk_at dksX7_setRules_2 14 rfl rfl)
theorem dX7_setRules_61 : decode cX7_setRules 61 = .ok (.iastore, 1) := dk_79 (dk_at dksX7_setRules_2 15 rfl rfl)
theorem dX7_setRules_62 : decode cX7_setRules 62 = .ok (.iinc 3 1, 3) := dk_132 3 1 (dk_at dksX7_setRules_2 16 rfl rfl)
theorem dX7_setRules_65 : decode cX7_setRules 65 = .ok (.goto (-57), 3) := dk_167 255 199 (dk_at dksX7_setRules_2 19 rfl rfl)
theorem dX7_setRules_68 : decode cX7_setRules 68 = .ok (.return_, 1) := dk_177 (dk_at dksX7_setRules_2 22 rfl rfl)
def dkwX7_ones_1 : List UInt8 := [27, 172]
abbrev dktX7_ones_1 : List UInt8 := dkwX7_ones_1 ++ []
def dkwX7_ones_0 : List UInt8 := [3, 60, 3, 61, 28, 16, 8, 162, 0, 17, 27, 26, 28, 122, 4, 126, 96, 60, 132, 2, 1, 167, 255, 239]
abbrev dktX7_ones_0 : List UInt8 := dkwX7_ones_0 ++ dktX7_ones_1
theorem dksX7_ones_0 : cX7_ones.data.toList.drop 0 = dktX7_ones_0 := by decide +kernel
theorem dksX7_ones_1 : cX7_ones.data.toList.drop 24 = dktX7_ones_1 := dk_seg dksX7_ones_0 24 rfl rfl
theorem dX7_ones_0 : decode cX7_ones 0 = .ok (.iconst 0, 1) := dk_3 (dk_at dksX7_ones_0 0 rfl rfl)
theorem dX7_ones_1 : decode cX7_ones 1 = .ok (.istore_n 1, 1) := dk_60 (dk_at dksX7_ones_0 1 rfl rfl)
theorem dX7_ones_2 : decode cX7_ones 2 = .ok (.iconst 0, 1) := dk_3 (dk_at dksX7_ones_0 2 rfl rfl)
theorem dX7_ones_3 : decode cX7_ones 3 = .ok (.istore_n 2, 1) := dk_61 (dk_at dksX7_ones_0 3 rfl rfl)
theorem dX7_ones_4 : decode cX7_ones 4 = .ok (.iload_n 2, 1) := dk_28 (dk_at dksX7_ones_0 4 rfl rfl)
theorem dX7_ones_5 : decode cX7_ones 5 = .ok (.bipush 8, 2) := dk_16 8 (dk_at dksX7_ones_0 5 rfl rfl)
theorem dX7_ones_7 : decode cX7_ones 7 = .ok (.if_icmp .ge 17, 3) := dk_162 0 17 (dk_at dksX7_ones_0 7 rfl rfl)
theorem dX7_ones_10 : decode cX7_ones 10 = .ok (.iload_n 1, 1) := dk_27 (dk_at dksX7_ones_0 10 rfl rfl)
theorem dX7_ones_11 : decode cX7_ones 11 = .ok (.iload_n 0, 1) := dk_26 (dk_at dksX7_ones_0 11 rfl rfl)
theorem dX7_ones_12 : decode cX7_ones 12 = .ok (.iload_n 2, 1) := dk_28 (dk_at dksX7_ones_0 12 rfl rfl)
theorem dX7_ones_13 : decode cX7_ones 13 = .ok (.ishr, 1) := dk_122 (dk_at dksX7_ones_0 13 rfl rfl)
theorem dX7_ones_14 : decode cX7_ones 14 = .ok (.iconst 1, 1) := dk_4 (dk_at dksX7_ones_0 14 rfl rfl)
theorem dX7_ones_15 : decode cX7_ones 15 = .ok (.iand, 1) := dk_126 (dk_at dksX7_ones_0 15 rfl rfl)
theorem dX7_ones_16 : decode cX7_ones 16 = .ok (.iadd, 1) := dk_96 (dk_at dksX7_ones_0 16 rfl rfl)
theorem dX7_ones_17 : decode cX7_ones 17 = .ok (.istore_n 1, 1) := dk_60 (dk_at dksX7_ones_0 17 rfl rfl)
theorem dX7_ones_18 : decode cX7_ones 18 = .ok (.iinc 2 1, 3) := dk_132 2 1 (dk_at dksX7_ones_0 18 rfl rfl)
theorem dX7_ones_21 : decode cX7_ones 21 = .ok (.goto (-17), 3) := dk_167 255 239 (dk_at dksX7_ones_0 21 rfl rfl)
theorem dX7_ones_24 : decode cX7_ones 24 = .ok (.iload_n 1, 1) := dk_27 (dk_at dksX7_ones_1 0 rfl rfl)
theorem dX7_ones_25 : decode cX7_ones 25 = .ok (.ireturn, 1) := dk_172 (dk_at dksX7_ones_1 1 rfl rfl)
def dkwX7_leastBy_10 : List UInt8 := [180, 0, 62, 21, 5, 46, 182, 1, 222, 100, 62, 132, 5, 1, 167, 255, 43, 28, 172]
abbrev dktX7_leastBy_10 : List UInt8 := dkwX7_leastBy_10 ++ []
def dkwX7_leastBy_9 : List UInt8 := [180, 0, 24, 42, 180, 0, 62, 21, 4, 46, 46, 100, 79, 29, 42, 42, 180, 0, 62, 21, 4, 46, 42]
abbrev dktX7_leastBy_9 : List UInt8 := dkwX7_leastBy_9 ++ dktX7_leastBy_10
def dkwX7_leastBy_8 : List UInt8 := [21, 4, 155, 255, 101, 42, 180, 0, 80, 21, 4, 46, 54, 5, 42, 180, 0, 77, 21, 5, 92, 46, 42]
abbrev dktX7_leastBy_8 : List UInt8 := dkwX7_leastBy_8 ++ dktX7_leastBy_9
def dkwX7_leastBy_7 : List UInt8 := [180, 0, 62, 21, 5, 46, 182, 1, 222, 96, 62, 132, 4, 1, 3, 54, 5, 167, 255, 109, 132, 4, 255]
abbrev dktX7_leastBy_7 : List UInt8 := dkwX7_leastBy_7 ++ dktX7_leastBy_8
def dkwX7_leastBy_6 : List UInt8 := [180, 0, 24, 42, 180, 0, 62, 21, 4, 46, 46, 96, 79, 29, 42, 42, 180, 0, 62, 21, 4, 46, 42]
abbrev dktX7_leastBy_6 : List UInt8 := dkwX7_leastBy_6 ++ dktX7_leastBy_7
def dkwX7_leastBy_5 : List UInt8 := [180, 1, 215, 162, 0, 64, 42, 180, 0, 80, 21, 4, 21, 5, 79, 42, 180, 0, 77, 21, 5, 92, 46, 42]
abbrev dktX7_leastBy_5 : List UInt8 := dkwX7_leastBy_5 ++ dktX7_leastBy_6
def dkwX7_leastBy_4 : List UInt8 := [21, 4, 21, 5, 27, 29, 28, 182, 1, 218, 154, 0, 9, 132, 5, 1, 167, 255, 230, 21, 5, 42]
abbrev dktX7_leastBy_4 : List UInt8 := dkwX7_leastBy_4 ++ dktX7_leastBy_5
def dkwX7_leastBy_3 : List UInt8 := [21, 6, 46, 79, 132, 6, 1, 167, 255, 230, 167, 0, 102, 21, 5, 42, 180, 1, 215, 162, 0, 23, 42]
abbrev dktX7_leastBy_3 : List UInt8 := dkwX7_leastBy_3 ++ dktX7_leastBy_4
def dkwX7_leastBy_2 : List UInt8 := [29, 61, 3, 54, 6, 21, 6, 42, 180, 1, 215, 162, 0, 23, 42, 180, 0, 83, 21, 6, 42, 180, 0, 80]
abbrev dktX7_leastBy_2 : List UInt8 := dkwX7_leastBy_2 ++ dktX7_leastBy_3
def dkwX7_leastBy_1 : List UInt8 := [21, 6, 3, 79, 132, 6, 1, 167, 255, 238, 21, 4, 155, 0, 214, 21, 4, 42, 180, 1, 215, 160, 0, 40]
abbrev dktX7_leastBy_1 : List UInt8 := dkwX7_leastBy_1 ++ dktX7_leastBy_2
def dkwX7_leastBy_0 : List UInt8 := [2, 61, 3, 62, 3, 54, 4, 3, 54, 5, 3, 54, 6, 21, 6, 16, 7, 162, 0, 17, 42, 180, 0, 77]
abbrev dktX7_leastBy_0 : List UInt8 := dkwX7_leastBy_0 ++ dktX7_leastBy_1
theorem dksX7_leastBy_0 : cX7_leastBy.data.toList.drop 0 = dktX7_leastBy_0 := by decide +kernel
theorem dksX7_leastBy_1 : cX7_leastBy.data.toList.drop 24 = dktX7_leastBy_1 := dk_seg dksX7_leastBy_0 24 rfl rfl
theorem dksX7_leastBy_2 : cX7_leastBy.data.toList.drop 48 = dktX7_leastBy_2 := dk_seg dksX7_leastBy_1 24 rfl rfl
theorem dksX7_leastBy_3 : cX7_leastBy.data.toList.drop 72 = dktX7_leastBy_3 := dk_seg dksX7_leastBy_2 24 rfl rfl
theorem dksX7_leastBy_4 : cX7_leastBy.data.toList.drop 95 = dktX7_leastBy_4 := dk_seg dksX7_leastBy_3 23 rfl rfl
theorem dksX7_leastBy_5 : cX7_leastBy.data.toList.drop 117 = dktX7_leastBy_5 := dk_seg dksX7_leastBy_4 22 rfl rfl
theorem dksX7_leastBy_6 : cX7_leastBy.data.toList.drop 141 = dktX7_leastBy_6 := dk_seg dksX7_leastBy_5 24 rfl rfl
theorem dksX7_leastBy_7 : cX7_leastBy.data.toList.drop 164 = dktX7_leastBy_7 := dk_seg dksX7_leastBy_6 23 rfl rfl
theorem dksX7_leastBy_8 : cX7_leastBy.data.toList.drop 187 = dktX7_leastBy_8 := dk_seg dksX7_leastBy_7 23 rfl rfl
theorem dksX7_leastBy_9 : cX7_leastBy.data.toList.drop 210 = dktX7_leastBy_9 := dk_seg dksX7_leastBy_8 23 rfl rfl
theorem dksX7_leastBy_10 : cX7_leastBy.data.toList.drop 233 = dktX7_leastBy_10 := dk_seg dksX7_leastBy_9 23 rfl rfl
theorem dX7_leastBy_0 : decode cX7_leastBy 0 = .ok (.iconst (-1), 1) := dk_2 (dk_at dksX7_leastBy_0 0 rfl rfl)
theorem dX7_leastBy_1 : decode cX7_leastBy 1 = .ok (.istore_n 2, 1) := dk_61 (dk_at dksX7_leastBy_0 1 rfl rfl)
theorem dX7_leastBy_2 : decode cX7_leastBy 2 = .ok (.iconst 0, 1) := dk_3 (dk_at dksX7_leastBy_0 2 rfl rfl)
theorem dX7_leastBy_3 : decode cX7_leastBy 3 = .ok (.istore_n 3, 1) := dk_62 (dk_at dksX7_leastBy_0 3 rfl rfl)
theorem dX7_leastBy_4 : decode cX7_leastBy 4 = .ok (.iconst 0, 1) := dk_3 (dk_at dksX7_leastBy_0 4 rfl rfl)
theorem dX7_leastBy_5 : decode cX7_leastBy 5 = .ok (.istore 4, 2) := dk_54 4 (dk_at dksX7_leastBy_0 5 rfl rfl)
theorem dX7_leastBy_7 : decode cX7_leastBy 7 = .ok (.iconst 0, 1) := dk_3 (dk_at dksX7_leastBy_0 7 rfl rfl)
theorem dX7_leastBy_8 : decode cX7_leastBy 8 = .ok (.istore 5, 2) := dk_54 5 (dk_at dksX7_leastBy_0 8 rfl rfl)
theorem dX7_leastBy_10 : decode cX7_leastBy 10 = .ok (.iconst 0, 1) := dk_3 (dk_at dksX7_leastBy_0 10 rfl rfl)
theorem dX7_leastBy_11 : decode cX7_leastBy 11 = .ok (.istore 6, 2) := dk_54 6 (dk_at dksX7_leastBy_0 11 rfl rfl)
theorem dX7_leastBy_13 : decode cX7_leastBy 13 = .ok (.iload 6, 2) := dk_21 6 (dk_at dksX7_leastBy_0 13 rfl rfl)
theorem dX7_leastBy_15 : decode cX7_leastBy 15 = .ok (.bipush 7, 2) := dk_16 7 (dk_at dksX7_leastBy_0 15 rfl rfl)
theorem dX7_leastBy_17 : decode cX7_leastBy 17 = .ok (.if_icmp .ge 17, 3) := dk_162 0 17 (dk_at dksX7_leastBy_0 17 rfl rfl)
theorem dX7_leastBy_20 : decode cX7_leastBy 20 = .ok (.aload_n 0, 1) := dk_42 (dk_at dksX7_leastBy_0 20 rfl rfl)
theorem dX7_leastBy_21 : decode cX7_leastBy 21 = .ok (.getfield 77, 3) := dk_180 0 77 (dk_at dksX7_leastBy_0 21 rfl rfl)
theorem dX7_leastBy_24 : decode cX7_leastBy 24 = .ok (.iload 6, 2) := dk_21 6 (dk_at dksX7_leastBy_1 0 rfl rfl)
theorem dX7_leastBy_26 : decode cX7_leastBy 26 = .ok (.iconst 0, 1) := dk_3 (dk_at dksX7_leastBy_1 2 rfl rfl)
theorem dX7_leastBy_27 : decode cX7_leastBy 27 = .ok (.iastore, 1) := dk_79 (dk_at dksX7_leastBy_1 3 rfl rfl)
theorem dX7_leastBy_28 : decode cX7_leastBy 28 = .ok (.iinc 6 1, 3) := dk_132 6 1 (dk_at dksX7_leastBy_1 4 rfl rfl)
theorem dX7_leastBy_31 : decode cX7_leastBy 31 = .ok (.goto (-18), 3) := dk_167 255 238 (dk_at dksX7_leastBy_1 7 rfl rfl)
theorem dX7_leastBy_34 : decode cX7_leastBy 34 = .ok (.iload 4, 2) := dk_21 4 (dk_at dksX7_leastBy_1 10 rfl rfl)
theorem dX7_leastBy_36 : decode cX7_leastBy 36 = .ok (.ifCond .lt 214, 3) := dk_155 0 214 (dk_at dksX7_leastBy_1 12 rfl rfl)
theorem dX7_leastBy_39 : decode cX7_leastBy 39 = .ok (.iload 4, 2) := dk_21 4 (dk_at dksX7_leastBy_1 15 rfl rfl)
theorem dX7_leastBy_41 : decode cX7_leastBy 41 = .ok (.aload_n 0, 1) := dk_42 (dk_at dksX7_leastBy_1 17 rfl rfl)
theorem dX7_leastBy_42 : decode cX7_leastBy 42 = .ok (.getfield 471, 3) := dk_180 1 215 (dk_at dksX7_leastBy_1 18 rfl rfl)
theorem dX7_leastBy_45 : decode cX7_leastBy 45 = .ok (.if_icmp .ne 40, 3) := dk_160 0 40 (dk_at dksX7_leastBy_1 21 rfl rfl)
theorem dX7_leastBy_48 : decode cX7_leastBy 48 = .ok (.iload_n 3, 1) := dk_29 (dk_at dksX7_leastBy_2 0 rfl rfl)
theorem dX7_leastBy_49 : decode cX7_leastBy 49 = .ok (.istore_n 2, 1) := dk_61 (dk_at dksX7_leastBy_2 1 rfl rfl)
theorem dX7_leastBy_50 : decode cX7_leastBy 50 = .ok (.iconst 0, 1) := dk_3 (dk_at dksX7_leastBy_2 2 rfl rfl)
theorem dX7_leastBy_51 : decode cX7_leastBy 51 = .ok (.istore 6, 2) := dk_54 6 (dk_at dksX7_leastBy_2 3 rfl rfl)
theorem dX7_leastBy_53 : decode cX7_leastBy 53 = .ok (.iload 6, 2) := dk_21 6 (dk_at dksX7_leastBy_2 5 rfl rfl)
theorem dX7_leastBy_55 : decode cX7_leastBy 55 = .ok (.aload_n 0, 1) := dk_42 (dk_at dksX7_leastBy_2 7 rfl rfl)
theorem dX7_leastBy_56 : decode cX7_leastBy 56 = .ok (.getfield 471, 3) := dk_180 1 215 (dk_at dksX7_leastBy_2 8 rfl rfl)
theorem dX7_leastBy_59 : decode cX7_leastBy 59 = .ok (.if_icmp .ge 23, 3) := dk_162 0 23 (dk_at dksX7_leastBy_2 11 rfl rfl)
theorem dX7_leastBy_62 : decode cX7_leastBy 62 = .ok (.aload_n 0, 1) := dk_42 (dk_at dksX7_leastBy_2 14 rfl rfl)
theorem dX7_leastBy_63 : decode cX7_leastBy 63 = .ok (.getfield 83, 3) := dk_180 0 83 (dk_at dksX7_leastBy_2 15 rfl rfl)
theorem dX7_leastBy_66 : decode cX7_leastBy 66 = .ok (.iload 6, 2) := dk_21 6 (dk_at dksX7_leastBy_2 18 rfl rfl)
theorem dX7_leastBy_68 : decode cX7_leastBy 68 = .ok (.aload_n 0, 1) := dk_42 (dk_at dksX7_leastBy_2 20 rfl rfl)
theorem dX7_leastBy_69 : decode cX7_leastBy 69 = .ok (.getfield 80, 3) := dk_180 0 80 (dk_at dksX7_leastBy_2 21 rfl rfl)
theorem dX7_leastBy_72 : decode cX7_leastBy 72 = .ok (.iload 6, 2) := dk_21 6 (dk_at dksX7_leastBy_3 0 rfl rfl)
theorem dX7_leastBy_74 : decode cX7_leastBy 74 = .ok (.iaload, 1) := dk_46 (dk_at dksX7_leastBy_3 2 rfl rfl)
theorem dX7_leastBy_75 : decode cX7_leastBy 75 = .ok (.iastore, 1) := dk_79 (dk_at dksX7_leastBy_3 3 rfl rfl)
theorem dX7_leastBy_76 : decode cX7_leastBy 76 = .ok (.iinc 6 1, 3) := dk_132 6 1 (dk_at dksX7_leastBy_3 4 rfl rfl)
theorem dX7_leastBy_79 : decode cX7_leastBy 79 = .ok (.goto (-26), 3) := dk_167 255 230 (dk_at dksX7_leastBy_3 7 rfl rfl)
theorem dX7_leastBy_82 : decode cX7_leastBy 82 = .ok (.goto 102, 3) := dk_167 0 102 (dk_at dksX7_leastBy_3 10 rfl rfl)
theorem dX7_leastBy_85 : decode cX7_leastBy 85 = .ok (.iload 5, 2) := dk_21 5 (dk_at dksX7_leastBy_3 13 rfl rfl)
theorem dX7_leastBy_87 : decode cX7_leastBy 87 = .ok (.aload_n 0, 1) := dk_42 (dk_at dksX7_leastBy_3 15 rfl rfl)
theorem dX7_leastBy_88 : decode cX7_leastBy 88 = .ok (.getfield 471, 3) := dk_180 1 215 (dk_at dksX7_leastBy_3 16 rfl rfl)
theorem dX7_leastBy_91 : decode cX7_leastBy 91 = .ok (.if_icmp .ge 23, 3) := dk_162 0 23 (dk_at dksX7_leastBy_3 19 rfl rfl)
theorem dX7_leastBy_94 : decode cX7_leastBy 94 = .ok (.aload_n 0, 1) := dk_42 (dk_at dksX7_leastBy_3 22 rfl rfl)
theorem dX7_leastBy_95 : decode cX7_leastBy 95 = .ok (.iload 4, 2) := dk_21 4 (dk_at dksX7_leastBy_4 0 rfl rfl)
theorem dX7_leastBy_97 : decode cX7_leastBy 97 = .ok (.iload 5, 2) := dk_21 5 (dk_at dksX7_leastBy_4 2 rfl rfl)
theorem dX7_leastBy_99 : decode cX7_leastBy 99 = .ok (.iload_n 1, 1) := dk_27 (dk_at dksX7_leastBy_4 4 rfl rfl)
theorem dX7_leastBy_100 : decode cX7_leastBy 100 = .ok (.iload_n 3, 1) := dk_29 (dk_at dksX7_leastBy_4 5 rfl rfl)
theorem dX7_leastBy_101 : decode cX7_leastBy 101 = .ok (.iload_n 2, 1) := dk_28 (dk_at dksX7_leastBy_4 6 rfl rfl)
theorem dX7_leastBy_102 : decode cX7_leastBy 102 = .ok (.invokevirtual 474, 3) := dk_182 1 218 (dk_at dksX7_leastBy_4 7 rfl rfl)
theorem dX7_leastBy_105 : decode cX7_leastBy 105 = .ok (.ifCond .ne 9, 3) := dk_154 0 9 (dk_at dksX7_leastBy_4 10 rfl rfl)
theorem dX7_leastBy_108 : decode cX7_leastBy 108 = .ok (.iinc 5 1, 3) := dk_132 5 1 (dk_at dksX7_leastBy_4 13 rfl rfl)
theorem dX7_leastBy_111 : decode cX7_leastBy 111 = .ok (.goto (-26), 3) := dk_167 255 230 (dk_at dksX7_leastBy_4 16 rfl rfl)
theorem dX7_leastBy_114 : decode cX7_leastBy 114 = .ok (.iload 5, 2) := dk_21 5 (dk_at dksX7_leastBy_4 19 rfl rfl)
theorem dX7_leastBy_116 : decode cX7_leastBy 116 = .ok (.aload_n 0, 1) := dk_42 (dk_at dksX7_leastBy_4 21 rfl rfl)
theorem dX7_leastBy_117 : decode cX7_leastBy 117 = .ok (.getfield 471, 3) := dk_180 1 215 (dk_at dksX7_leastBy_5 0 rfl rfl)
theorem dX7_leastBy_120 : decode cX7_leastBy 120 = .ok (.if_icmp .ge 64, 3) := dk_162 0 64 (dk_at dksX7_leastBy_5 3 rfl rfl)
theorem dX7_leastBy_123 : decode cX7_leastBy 123 = .ok (.aload_n 0, 1) := dk_42 (dk_at dksX7_leastBy_5 6 rfl rfl)
theorem dX7_leastBy_124 : decode cX7_leastBy 124 = .ok (.getfield 80, 3) := dk_180 0 80 (dk_at dksX7_leastBy_5 7 rfl rfl)
theorem dX7_leastBy_127 : decode cX7_leastBy 127 = .ok (.iload 4, 2) := dk_21 4 (dk_at dksX7_leastBy_5 10 rfl rfl)
theorem dX7_leastBy_129 : decode cX7_leastBy 129 = .ok (.iload 5, 2) := dk_21 5 (dk_at dksX7_leastBy_5 12 rfl rfl)
theorem dX7_leastBy_131 : decode cX7_leastBy 131 = .ok (.iastore, 1) := dk_79 (dk_at dksX7_leastBy_5 14 rfl rfl)
theorem dX7_leastBy_132 : decode cX7_leastBy 132 = .ok (.aload_n 0, 1) := dk_42 (dk_at dksX7_leastBy_5 15 rfl rfl)
theorem dX7_leastBy_133 : decode cX7_leastBy 133 = .ok (.getfield 77, 3) := dk_180 0 77 (dk_at dksX7_leastBy_5 16 rfl rfl)
theorem dX7_leastBy_136 : decode cX7_leastBy 136 = .ok (.iload 5, 2) := dk_21 5 (dk_at dksX7_leastBy_5 19 rfl rfl)
theorem dX7_leastBy_138 : decode cX7_leastBy 138 = .ok (.dup2, 1) := dk_92 (dk_at dksX7_leastBy_5 21 rfl rfl)
theorem dX7_leastBy_139 : decode cX7_leastBy 139 = .ok (.iaload, 1) := dk_46 (dk_at dksX7_leastBy_5 22 rfl rfl)
theorem dX7_leastBy_140 : decode cX7_leastBy 140 = .ok (.aload_n 0, 1) := dk_42 (dk_at dksX7_leastBy_5 23 rfl rfl)
theorem dX7_leastBy_141 : decode cX7_leastBy 141 = .ok (.getfield 24, 3) := dk_180 0 24 (dk_at dksX7_leastBy_6 0 rfl rfl)
theorem dX7_leastBy_144 : decode cX7_leastBy 144 = .ok (.aload_n 0, 1) := dk_42 (dk_at dksX7_leastBy_6 3 rfl rfl)
theorem dX7_leastBy_145 : decode cX7_leastBy 145 = .ok (.getfield 62, 3) := dk_180 0 62 (dk_at dksX7_leastBy_6 4 rfl rfl)
theorem dX7_leastBy_148 : decode cX7_leastBy 148 = .ok (.iload 4, 2) := dk_21 4 (dk_at dksX7_leastBy_6 7 rfl rfl)
theorem dX7_leastBy_150 : decode cX7_leastBy 150 = .ok (.iaload, 1) := dk_46 (dk_at dksX7_leastBy_6 9 rfl rfl)
theorem dX7_leastBy_151 : decode cX7_leastBy 151 = .ok (.iaload, 1) := dk_46 (dk_at dksX7_leastBy_6 10 rfl rfl)
theorem dX7_leastBy_152 : decode cX7_leastBy 152 = .ok (.iadd, 1) := dk_96 (dk_at dksX7_leastBy_6 11 rfl rfl)
theorem dX7_leastBy_153 : decode cX7_leastBy 153 = .ok (.iastore, 1) := dk_79 (dk_at dksX7_leastBy_6 12 rfl rfl)
theorem dX7_leastBy_154 : decode cX7_leastBy 154 = .ok (.iload_n 3, 1) := dk_29 (dk_at dksX7_leastBy_6 13 rfl rfl)
theorem dX7_leastBy_155 : decode cX7_leastBy 155 = .ok (.aload_n 0, 1) := dk_42 (dk_at dksX7_leastBy_6 14 rfl rfl)
theorem dX7_leastBy_156 : decode cX7_leastBy 156 = .ok (.aload_n 0, 1) := dk_42 (dk_at dksX7_leastBy_6 15 rfl rfl)
theorem dX7_leastBy_157 : decode cX7_leastBy 157 = .ok (.getfield 62, 3) := dk_180 0 62 (dk_at dksX7_leastBy_6 16 rfl rfl)
theorem dX7_leastBy_160 : decode cX7_leastBy 160 = .ok (.iload 4, 2) := dk_21 4 (dk_at dksX7_leastBy_6 19 rfl rfl)
theorem dX7_leastBy_162 : decode cX7_leastBy 162 = .ok (.iaload, 1) := dk_46 (dk_at dksX7_leastBy_6 21 rfl rfl)
theorem dX7_leastBy_163 : decode cX7_leastBy 163 = .ok (.aload_n 0, 1) := dk_42 (dk_at dksX7_leastBy_6 22 rfl rfl)
theorem dX7_leastBy_164 : decode cX7_leastBy 164 = .ok (.getfield 62, 3) := dk_180 0 62 (dk_at dksX7_leastBy_7 0 rfl rfl)
theorem dX7_leastBy_167 : decode cX7_leastBy 167 = .ok (.iload 5, 2) := dk_21 5 (dk_at dksX7_leastBy_7 3 rfl rfl)
theorem dX7_leastBy_169 : decode cX7_leastBy 169 = .ok (.iaload, 1) := dk_46 (dk_at dksX7_leastBy_7 5 rfl rfl)
theorem dX7_leastBy_170 : decode cX7_leastBy 170 = .ok (.invokevirtual 478, 3) := dk_182 1 222 (dk_at dksX7_leastBy_7 6 rfl rfl)
theorem dX7_leastBy_173 : decode cX7_leastBy 173 = .ok (.iadd, 1) := dk_96 (dk_at dksX7_leastBy_7 9 rfl rfl)
theorem dX7_leastBy_174 : decode cX7_leastBy 174 = .ok (.istore_n 3, 1) := dk_62 (dk_at dksX7_leastBy_7 10 rfl rfl)
theorem dX7_leastBy_175 : decode cX7_leastBy 175 = .ok (.iinc 4 1, 3) := dk_132 4 1 (dk_at dksX7_leastBy_7 11 rfl rfl)
theorem dX7_leastBy_178 : decode cX7_leastBy 178 = .ok (.iconst 0, 1) := dk_3 (dk_at dksX7_leastBy_7 14 rfl rfl)
theorem dX7_leastBy_179 : decode cX7_leastBy 179 = .ok (.istore 5, 2) := dk_54 5 (dk_at dksX7_leastBy_7 15 rfl rfl)
theorem dX7_leastBy_181 : decode cX7_leastBy 181 = .ok (.goto (-147), 3) := dk_167 255 109 (dk_at dksX7_leastBy_7 17 rfl rfl)
theorem dX7_leastBy_184 : decode cX7_leastBy 184 = .ok (.iinc 4 (-1), 3) := dk_132 4 255 (dk_at dksX7_leastBy_7 20 rfl rfl)
theorem dX7_leastBy_187 : decode cX7_leastBy 187 = .ok (.iload 4, 2) := dk_21 4 (dk_at dksX7_leastBy_8 0 rfl rfl)
theorem dX7_leastBy_189 : decode cX7_leastBy 189 = .ok (.ifCond .lt (-155), 3) := dk_155 255 101 (dk_at dksX7_leastBy_8 2 rfl rfl)
theorem dX7_leastBy_192 : decode cX7_leastBy 192 = .ok (.aload_n 0, 1) := dk_42 (dk_at dksX7_leastBy_8 5 rfl rfl)
theorem dX7_leastBy_193 : decode cX7_leastBy 193 = .ok (.getfield 80, 3) := dk_180 0 80 (dk_at dksX7_leastBy_8 6 rfl rfl)
theorem dX7_leastBy_196 : decode cX7_leastBy 196 = .ok (.iload 4, 2) := dk_21 4 (dk_at dksX7_leastBy_8 9 rfl rfl)
theorem dX7_leastBy_198 : decode cX7_leastBy 198 = .ok (.iaload, 1) := dk_46 (dk_at dksX7_leastBy_8 11 rfl rfl)
theorem dX7_leastBy_199 : decode cX7_leastBy 199 = .ok (.istore 5, 2) := dk_54 5 (dk_at dksX7_leastBy_8 12 rfl rfl)
theorem dX7_leastBy_201 : decode cX7_leastBy 201 = .ok (.aload_n 0, 1) := dk_42 (dk_at dksX7_leastBy_8 14 rfl rfl)
theorem dX7_leastBy_202 : decode cX7_leastBy 202 = .ok (.getfield 77, 3) := dk_180 0 77 (dk_at dksX7_leastBy_8 15 rfl rfl)
theorem dX7_leastBy_205 : decode cX7_leastBy 205 = .ok (.iload 5, 2) := dk_21 5 (dk_at dksX7_leastBy_8 18 rfl rfl)
theorem dX7_leastBy_207 : decode cX7_leastBy 207 = .ok (.dup2, 1) := dk_92 (dk_at dksX7_leastBy_8 20 rfl rfl)
theorem dX7_leastBy_208 : decode cX7_leastBy 208 = .ok (.iaload, 1) := dk_46 (dk_at dksX7_leastBy_8 21 rfl rfl)
theorem dX7_leastBy_209 : decode cX7_leastBy 209 = .ok (.aload_n 0, 1) := dk_42 (dk_at dksX7_leastBy_8 22 rfl rfl)
theorem dX7_leastBy_210 : decode cX7_leastBy 210 = .ok (.getfield 24, 3) := dk_180 0 24 (dk_at dksX7_leastBy_9 0 rfl rfl)
theorem dX7_leastBy_213 : decode cX7_leastBy 213 = .ok (.aload_n 0, 1) := dk_42 (dk_at dksX7_leastBy_9 3 rfl rfl)
theorem dX7_leastBy_214 : decode cX7_leastBy 214 = .ok (.getfield 62, 3) := dk_180 0 62 (dk_at dksX7_leastBy_9 4 rfl rfl)
theorem dX7_leastBy_217 : decode cX7_leastBy 217 = .ok (.iload 4, 2) := dk_21 4 (dk_at dksX7_leastBy_9 7 rfl rfl)
theorem dX7_leastBy_219 : decode cX7_leastBy 219 = .ok (.iaload, 1) := dk_46 (dk_at dksX7_leastBy_9 9 rfl rfl)
theorem dX7_leastBy_220 : decode cX7_leastBy 220 = .ok (.iaload, 1) := dk_46 (dk_at dksX7_leastBy_9 10 rfl rfl)
theorem dX7_leastBy_221 : decode cX7_leastBy 221 = .ok (.isub, 1) := dk_100 (dk_at dksX7_leastBy_9 11 rfl rfl)
theorem dX7_leastBy_222 : decode cX7_leastBy 222 = .ok (.iastore, 1) := dk_79 (dk_at dksX7_leastBy_9 12 rfl rfl)
theorem dX7_leastBy_223 : decode cX7_leastBy 223 = .ok (.iload_n 3, 1) := dk_29 (dk_at dksX7_leastBy_9 13 rfl rfl)
theorem dX7_leastBy_224 : decode cX7_leastBy 224 = .ok (.aload_n 0, 1) := dk_42 (dk_at dksX7_leastBy_9 14 rfl rfl)
theorem dX7_leastBy_225 : decode cX7_leastBy 225 = .ok (.aload_n 0, 1) := dk_42 (dk_at dksX7_leastBy_9 15 rfl rfl)
theorem dX7_leastBy_226 : decode cX7_leastBy 226 = .ok (.getfield 62, 3) := dk_180 0 62 (dk_at dksX7_leastBy_9 16 rfl rfl)
theorem dX7_leastBy_229 : decode cX7_leastBy 229 = .ok (.iload 4, 2) := dk_21 4 (dk_at dksX7_leastBy_9 19 rfl rfl)
theorem dX7_leastBy_231 : decode cX7_leastBy 231 = .ok (.iaload, 1) := dk_46 (dk_at dksX7_leastBy_9 21 rfl rfl)
theorem dX7_leastBy_232 : decode cX7_leastBy 232 = .ok (.aload_n 0, 1) := dk_42 (dk_at dksX7_leastBy_9 22 rfl rfl)
theorem dX7_leastBy_233 : decode cX7_leastBy 233 = .ok (.getfield 62, 3) := dk_180 0 62 (dk_at dksX7_leastBy_10 0 rfl rfl)
theorem dX7_leastBy_236 : decode cX7_leastBy 236 = .ok (.iload 5, 2) := dk_21 5 (dk_at dksX7_leastBy_10 3 rfl rfl)
theorem dX7_leastBy_238 : decode cX7_leastBy 238 = .ok (.iaload, 1) := dk_46 (dk_at dksX7_leastBy_10 5 rfl rfl)
theorem dX7_leastBy_239 : decode cX7_leastBy 239 = .ok (.invokevirtual 478, 3) := dk_182 1 222 (dk_at dksX7_leastBy_10 6 rfl rfl)
theorem dX7_leastBy_242 : decode cX7_leastBy 242 = .ok (.isub, 1) := dk_100 (dk_at dksX7_leastBy_10 9 rfl rfl)
theorem dX7_leastBy_243 : decode cX7_leastBy 243 = .ok (.istore_n 3, 1) := dk_62 (dk_at dksX7_leastBy_10 10 rfl rfl)
theorem dX7_leastBy_244 : decode cX7_leastBy 244 = .ok (.iinc 5 1, 3) := dk_132 5 1 (dk_at dksX7_leastBy_10 11 rfl rfl)
theorem dX7_leastBy_247 : decode cX7_leastBy 247 = .ok (.goto (-213), 3) := dk_167 255 43 (dk_at dksX7_leastBy_10 14 rfl rfl)
theorem dX7_leastBy_250 : decode cX7_leastBy 250 = .ok (.iload_n 2, 1) := dk_28 (dk_at dksX7_leastBy_10 17 rfl rfl)
theorem dX7_leastBy_251 : decode cX7_leastBy 251 = .ok (.ireturn, 1) := dk_172 (dk_at dksX7_leastBy_10 18 rfl rfl)
def dkwX7_mayLead_3 : List UInt8 := [159, 0, 13, 21, 4, 21, 6, 96, 21, 5, 162, 0, 7, 4, 167, 0, 4, 3, 172]
abbrev dktX7_mayLead_3 : List UInt8 := dkwX7_mayLead_3 ++ []
def dkwX7_mayLead_2 : List UInt8 := [180, 0, 24, 42, 180, 0, 62, 27, 46, 46, 96, 42, 180, 0, 71, 28, 46, 163, 0, 23, 21, 5, 2]
abbrev dktX7_mayLead_2 : List UInt8 := dkwX7_mayLead_2 ++ dktX7_mayLead_3
def dkwX7_mayLead_1 : List UInt8 := [182, 1, 222, 54, 6, 21, 6, 42, 180, 0, 74, 27, 46, 163, 0, 50, 42, 180, 0, 77, 28, 46, 42]
abbrev dktX7_mayLead_1 : List UInt8 := dkwX7_mayLead_1 ++ dktX7_mayLead_2
def dkwX7_mayLead_0 : List UInt8 := [29, 28, 122, 4, 126, 154, 0, 5, 3, 172, 42, 42, 180, 0, 62, 27, 46, 42, 180, 0, 62, 28, 46]
abbrev dktX7_mayLead_0 : List UInt8 := dkwX7_mayLead_0 ++ dktX7_mayLead_1
theorem dksX7_mayLead_0 : cX7_mayLead.data.toList.drop 0 = dktX7_mayLead_0 := by decide +kernel
theorem dksX7_mayLead_1 : cX7_mayLead.data.toList.drop 23 = dktX7_mayLead_1 := dk_seg dksX7_mayLead_0 23 rfl rfl
theorem dksX7_mayLead_2 : cX7_mayLead.data.toList.drop 46 = dktX7_mayLead_2 := dk_seg dksX7_mayLead_1 23 rfl rfl
theorem dksX7_mayLead_3 : cX7_mayLead.data.toList.drop 69 = dktX7_mayLead_3 := dk_seg dksX7_mayLead_2 23 rfl rfl
theorem dX7_mayLead_0 : decode cX7_mayLead 0 = .ok (.iload_n 3, 1) := dk_29 (dk_at dksX7_mayLead_0 0 rfl rfl)
theorem dX7_mayLead_1 : decode cX7_mayLead 1 = .ok (.iload_n 2, 1) := dk_28 (dk_at dksX7_mayLead_0 1 rfl rfl)
theorem dX7_mayLead_2 : decode cX7_mayLead 2 = .ok (.ishr, 1) := dk_122 (dk_at dksX7_mayLead_0 2 rfl rfl)
theorem dX7_mayLead_3 : decode cX7_mayLead 3 = .ok (.iconst 1, 1) := dk_4 (dk_at dksX7_mayLead_0 3 rfl rfl)
theorem dX7_mayLead_4 : decode cX7_mayLead 4 = .ok (.iand, 1) := dk_126 (dk_at dksX7_mayLead_0 4 rfl rfl)
theorem dX7_mayLead_5 : decode cX7_mayLead 5 = .ok (.ifCond .ne 5, 3) := dk_154 0 5 (dk_at dksX7_mayLead_0 5 rfl rfl)
theorem dX7_mayLead_8 : decode cX7_mayLead 8 = .ok (.iconst 0, 1) := dk_3 (dk_at dksX7_mayLead_0 8 rfl rfl)
theorem dX7_mayLead_9 : decode cX7_mayLead 9 = .ok (.ireturn, 1) := dk_172 (dk_at dksX7_mayLead_0 9 rfl rfl)
theorem dX7_mayLead_10 : decode cX7_mayLead 10 = .ok (.aload_n 0, 1) := dk_42 (dk_at dksX7_mayLead_0 10 rfl rfl)
theorem dX7_mayLead_11 : decode cX7_mayLead 11 = .ok (.aload_n 0, 1) := dk_42 (dk_at dksX7_mayLead_0 11 rfl rfl)
theorem dX7_mayLead_12 : decode cX7_mayLead 12 = .ok (.getfield 62, 3) := dk_180 0 62 (dk_at dksX7_mayLead_0 12 rfl rfl)
theorem dX7_mayLead_15 : decode cX7_mayLead 15 = .ok (.iload_n 1, 1) := dk_27 (dk_at dksX7_mayLead_0 15 rfl rfl)
theorem dX7_mayLead_16 : decode cX7_mayLead 16 = .ok (.iaload, 1) := dk_46 (dk_at dksX7_mayLead_0 16 rfl rfl)
theorem dX7_mayLead_17 : decode cX7_mayLead 17 = .ok (.aload_n 0, 1) := dk_42 (dk_at dksX7_mayLead_0 17 rfl rfl)
theorem dX7_mayLead_18 : decode cX7_mayLead 18 = .ok (.getfield 62, 3) := dk_180 0 62 (dk_at dksX7_mayLead_0 18 rfl rfl)
theorem dX7_mayLead_21 : decode cX7_mayLead 21 = .ok (.iload_n 2, 1) := dk_28 (dk_at dksX7_mayLead_0 21 rfl rfl)
theorem dX7_mayLead_22 : decode cX7_mayLead 22 = .ok (.iaload, 1) := dk_46 (dk_at dksX7_mayLead_0 22 rfl rfl)
theorem dX7_mayLead_23 : decode cX7_mayLead 23 = .ok (.invokevirtual 478, 3) := dk_182 1 222 (dk_at dksX7_mayLead_1 0 rfl rfl)
theorem dX7_mayLead_26 : decode cX7_mayLead 26 = .ok (.istore 6, 2) := dk_54 6 (dk_at dksX7_mayLead_1 3 rfl rfl)
theorem dX7_mayLead_28 : decode cX7_mayLead 28 = .ok (.iload 6, 2) := dk_21 6 (dk_at dksX7_mayLead_1 5 rfl rfl)
theorem dX7_mayLead_30 : decode cX7_mayLead 30 = .ok (.aload_n 0, 1) := dk_42 (dk_at dksX7_mayLead_1 7 rfl rfl)
theorem dX7_mayLead_31 : decode cX7_mayLead 31 = .ok (.getfield 74, 3) := dk_180 0 74 (dk_at dksX7_mayLead_1 8 rfl rfl)
theorem dX7_mayLead_34 : decode cX7_mayLead 34 = .ok (.iload_n 1, 1) := dk_27 (dk_at dksX7_mayLead_1 11 rfl rfl)
theorem dX7_mayLead_35 : decode cX7_mayLead 35 = .ok (.iaload, 1) := dk_46 (dk_at dksX7_mayLead_1 12 rfl rfl)
theorem dX7_mayLead_36 : decode cX7_mayLead 36 = .ok (.if_icmp .gt 50, 3) := dk_163 0 50 (dk_at dksX7_mayLead_1 13 rfl rfl)
theorem dX7_mayLead_39 : decode cX7_mayLead 39 = .ok (.aload_n 0, 1) := dk_42 (dk_at dksX7_mayLead_1 16 rfl rfl)
theorem dX7_mayLead_40 : decode cX7_mayLead 40 = .ok (.getfield 77, 3) := dk_180 0 77 (dk_at dksX7_mayLead_1 17 rfl rfl)
theorem dX7_mayLead_43 : decode cX7_mayLead 43 = .ok (.iload_n 2, 1) := dk_28 (dk_at dksX7_mayLead_1 20 rfl rfl)
theorem dX7_mayLead_44 : decode cX7_mayLead 44 = .ok (.iaload, 1) := dk_46 (dk_at dksX7_mayLead_1 21 rfl rfl)
theorem dX7_mayLead_45 : decode cX7_mayLead 45 = .ok (.aload_n 0, 1) := dk_42 (dk_at dksX7_mayLead_1 22 rfl rfl)
theorem dX7_mayLead_46 : decode cX7_mayLead 46 = .ok (.getfield 24, 3) := dk_180 0 24 (dk_at dksX7_mayLead_2 0 rfl rfl)
theorem dX7_mayLead_49 : decode cX7_mayLead 49 = .ok (.aload_n 0, 1) := dk_42 (dk_at dksX7_mayLead_2 3 rfl rfl)
theorem dX7_mayLead_50 : decode cX7_mayLead 50 = .ok (.getfield 62, 3) := dk_180 0 62 (dk_at dksX7_mayLead_2 4 rfl rfl)
theorem dX7_mayLead_53 : decode cX7_mayLead 53 = .ok (.iload_n 1, 1) := dk_27 (dk_at dksX7_mayLead_2 7 rfl rfl)
theorem dX7_mayLead_54 : decode cX7_mayLead 54 = .ok (.iaload, 1) := dk_46 (dk_at dksX7_mayLead_2 8 rfl rfl)
theorem dX7_mayLead_55 : decode cX7_mayLead 55 = .ok (.iaload, 1) := dk_46 (dk_at dksX7_mayLead_2 9 rfl rfl)
theorem dX7_mayLead_56 : decode cX7_mayLead 56 = .ok (.iadd, 1) := dk_96 (dk_at dksX7_mayLead_2 10 rfl rfl)
theorem dX7_mayLead_57 : decode cX7_mayLead 57 = .ok (.aload_n 0, 1) := dk_42 (dk_at dksX7_mayLead_2 11 rfl rfl)
theorem dX7_mayLead_58 : decode cX7_mayLead 58 = .ok (.getfield 71, 3) := dk_180 0 71 (dk_at dksX7_mayLead_2 12 rfl rfl)
theorem dX7_mayLead_61 : decode cX7_mayLead 61 = .ok (.iload_n 2, 1) := dk_28 (dk_at dksX7_mayLead_2 15 rfl rfl)
theorem dX7_mayLead_62 : decode cX7_mayLead 62 = .ok (.iaload, 1) := dk_46 (dk_at dksX7_mayLead_2 16 rfl rfl)
theorem dX7_mayLead_63 : decode cX7_mayLead 63 = .ok (.if_icmp .gt 23, 3) := dk_163 0 23 (dk_at dksX7_mayLead_2 17 rfl rfl)
theorem dX7_mayLead_66 : decode cX7_mayLead 66 = .ok (.iload 5, 2) := dk_21 5 (dk_at dksX7_mayLead_2 20 rfl rfl)
theorem dX7_mayLead_68 : decode cX7_mayLead 68 = .ok (.iconst (-1), 1) := dk_2 (dk_at dksX7_mayLead_2 22 rfl rfl)
theorem dX7_mayLead_69 : decode cX7_mayLead 69 = .ok (.if_icmp .eq 13, 3) := dk_159 0 13 (dk_at dksX7_mayLead_3 0 rfl rfl)
theorem dX7_mayLead_72 : decode cX7_mayLead 72 = .ok (.iload 4, 2) := dk_21 4 (dk_at dksX7_mayLead_3 3 rfl rfl)
theorem dX7_mayLead_74 : decode cX7_mayLead 74 = .ok (.iload 6, 2) := dk_21 6 (dk_at dksX7_mayLead_3 5 rfl rfl)
theorem dX7_mayLead_76 : decode cX7_mayLead 76 = .ok (.iadd, 1) := dk_96 (dk_at dksX7_mayLead_3 7 rfl rfl)
theorem dX7_mayLead_77 : decode cX7_mayLead 77 = .ok (.iload 5, 2) := dk_21 5 (dk_at dksX7_mayLead_3 8 rfl rfl)
theorem dX7_mayLead_79 : decode cX7_mayLead 79 = .ok (.if_icmp .ge 7, 3) := dk_162 0 7 (dk_at dksX7_mayLead_3 10 rfl rfl)
theorem dX7_mayLead_82 : decode cX7_mayLead 82 = .ok (.iconst 1, 1) := dk_4 (dk_at dksX7_mayLead_3 13 rfl rfl)
theorem dX7_mayLead_83 : decode cX7_mayLead 83 = .ok (.goto 4, 3) := dk_167 0 4 (dk_at dksX7_mayLead_3 14 rfl rfl)
theorem dX7_mayLead_86 : decode cX7_mayLead 86 = .ok (.iconst 0, 1) := dk_3 (dk_at dksX7_mayLead_3 17 rfl rfl)
theorem dX7_mayLead_87 : decode cX7_mayLead 87 = .ok (.ireturn, 1) := dk_172 (dk_at dksX7_mayLead_3 18 rfl rfl)
def dkwX7_away_3 : List UInt8 := [21, 4, 96, 172]
abbrev dktX7_away_3 : List UInt8 := dkwX7_away_3 ++ []
def dkwX7_away_2 : List UInt8 := [54, 4, 29, 156, 0, 8, 29, 116, 167, 0, 4, 29, 21, 4, 156, 0, 9, 21, 4, 116, 167, 0, 5]
abbrev dktX7_away_2 : List UInt8 := dkwX7_away_2 ++ dktX7_away_3
def dkwX7_away_1 : List UInt8 := [42, 180, 0, 7, 27, 184, 0, 133, 5, 96, 46, 42, 180, 0, 7, 28, 184, 0, 133, 5, 96, 46, 100]
abbrev dktX7_away_1 : List UInt8 := dkwX7_away_1 ++ dktX7_away_2
def dkwX7_away_0 : List UInt8 := [42, 180, 0, 7, 27, 184, 0, 133, 4, 96, 46, 42, 180, 0, 7, 28, 184, 0, 133, 4, 96, 46, 100, 62]
abbrev dktX7_away_0 : List UInt8 := dkwX7_away_0 ++ dktX7_away_1
theorem dksX7_away_0 : cX7_away.data.toList.drop 0 = dktX7_away_0 := by decide +kernel
theorem dksX7_away_1 : cX7_away.data.toList.drop 24 = dktX7_away_1 := dk_seg dksX7_away_0 24 rfl rfl
theorem dksX7_away_2 : cX7_away.data.toList.drop 47 = dktX7_away_2 := dk_seg dksX7_away_1 23 rfl rfl
theorem dksX7_away_3 : cX7_away.data.toList.drop 70 = dktX7_away_3 := dk_seg dksX7_away_2 23 rfl rfl
theorem dX7_away_0 : decode cX7_away 0 = .ok (.aload_n 0, 1) := dk_42 (dk_at dksX7_away_0 0 rfl rfl)
theorem dX7_away_1 : decode cX7_away 1 = .ok (.getfield 7, 3) := dk_180 0 7 (dk_at dksX7_away_0 1 rfl rfl)
theorem dX7_away_4 : decode cX7_away 4 = .ok (.iload_n 1, 1) := dk_27 (dk_at dksX7_away_0 4 rfl rfl)
theorem dX7_away_5 : decode cX7_away 5 = .ok (.invokestatic 133, 3) := dk_184 0 133 (dk_at dksX7_away_0 5 rfl rfl)
theorem dX7_away_8 : decode cX7_away 8 = .ok (.iconst 1, 1) := dk_4 (dk_at dksX7_away_0 8 rfl rfl)
theorem dX7_away_9 : decode cX7_away 9 = .ok (.iadd, 1) := dk_96 (dk_at dksX7_away_0 9 rfl rfl)
theorem dX7_away_10 : decode cX7_away 10 = .ok (.iaload, 1) := dk_46 (dk_at dksX7_away_0 10 rfl rfl)
theorem dX7_away_11 : decode cX7_away 11 = .ok (.aload_n 0, 1) := dk_42 (dk_at dksX7_away_0 11 rfl rfl)
theorem dX7_away_12 : decode cX7_away 12 = .ok (.getfield 7, 3) := dk_180 0 7 (dk_at dksX7_away_0 12 rfl rfl)
theorem dX7_away_15 : decode cX7_away 15 = .ok (.iload_n 2, 1) := dk_28 (dk_at dksX7_away_0 15 rfl rfl)
theorem dX7_away_16 : decode cX7_away 16 = .ok (.invokestatic 133, 3) := dk_184 0 133 (dk_at dksX7_away_0 16 rfl rfl)
theorem dX7_away_19 : decode cX7_away 19 = .ok (.iconst 1, 1) := dk_4 (dk_at dksX7_away_0 19 rfl rfl)
theorem dX7_away_20 : decode cX7_away 20 = .ok (.iadd, 1) := dk_96 (dk_at dksX7_away_0 20 rfl rfl)
theorem dX7_away_21 : decode cX7_away 21 = .ok (.iaload, 1) := dk_46 (dk_at dksX7_away_0 21 rfl rfl)
theorem dX7_away_22 : decode cX7_away 22 = .ok (.isub, 1) := dk_100 (dk_at dksX7_away_0 22 rfl rfl)
theorem dX7_away_23 : decode cX7_away 23 = .ok (.istore_n 3, 1) := dk_62 (dk_at dksX7_away_0 23 rfl rfl)
theorem dX7_away_24 : decode cX7_away 24 = .ok (.aload_n 0, 1) := dk_42 (dk_at dksX7_away_1 0 rfl rfl)
theorem dX7_away_25 : decode cX7_away 25 = .ok (.getfield 7, 3) := dk_180 0 7 (dk_at dksX7_away_1 1 rfl rfl)
theorem dX7_away_28 : decode cX7_away 28 = .ok (.iload_n 1, 1) := dk_27 (dk_at dksX7_away_1 4 rfl rfl)
theorem dX7_away_29 : decode cX7_away 29 = .ok (.invokestatic 133, 3) := dk_184 0 133 (dk_at dksX7_away_1 5 rfl rfl)
theorem dX7_away_32 : decode cX7_away 32 = .ok (.iconst 2, 1) := dk_5 (dk_at dksX7_away_1 8 rfl rfl)
theorem dX7_away_33 : decode cX7_away 33 = .ok (.iadd, 1) := dk_96 (dk_at dksX7_away_1 9 rfl rfl)
theorem dX7_away_34 : decode cX7_away 34 = .ok (.iaload, 1) := dk_46 (dk_at dksX7_away_1 10 rfl rfl)
theorem dX7_away_35 : decode cX7_away 35 = .ok (.aload_n 0, 1) := dk_42 (dk_at dksX7_away_1 11 rfl rfl)
theorem dX7_away_36 : decode cX7_away 36 = .ok (.getfield 7, 3) := dk_180 0 7 (dk_at dksX7_away_1 12 rfl rfl)
theorem dX7_away_39 : decode cX7_away 39 = .ok (.iload_n 2, 1) := dk_28 (dk_at dksX7_away_1 15 rfl rfl)
theorem dX7_away_40 : decode cX7_away 40 = .ok (.invokestatic 133, 3) := dk_184 0 133 (dk_at dksX7_away_1 16 rfl rfl)
theorem dX7_away_43 : decode cX7_away 43 = .ok (.iconst 2, 1) := dk_5 (dk_at dksX7_away_1 19 rfl rfl)
theorem dX7_away_44 : decode cX7_away 44 = .ok (.iadd, 1) := dk_96 (dk_at dksX7_away_1 20 rfl rfl)
theorem dX7_away_45 : decode cX7_away 45 = .ok (.iaload, 1) := dk_46 (dk_at dksX7_away_1 21 rfl rfl)
theorem dX7_away_46 : decode cX7_away 46 = .ok (.isub, 1) := dk_100 (dk_at dksX7_away_1 22 rfl rfl)
theorem dX7_away_47 : decode cX7_away 47 = .ok (.istore 4, 2) := dk_54 4 (dk_at dksX7_away_2 0 rfl rfl)
theorem dX7_away_49 : decode cX7_away 49 = .ok (.iload_n 3, 1) := dk_29 (dk_at dksX7_away_2 2 rfl rfl)
theorem dX7_away_50 : decode cX7_away 50 = .ok (.ifCond .ge 8, 3) := dk_156 0 8 (dk_at dksX7_away_2 3 rfl rfl)
theorem dX7_away_53 : decode cX7_away 53 = .ok (.iload_n 3, 1) := dk_29 (dk_at dksX7_away_2 6 rfl rfl)
theorem dX7_away_54 : decode cX7_away 54 = .ok (.ineg, 1) := dk_116 (dk_at dksX7_away_2 7 rfl rfl)
theorem dX7_away_55 : decode cX7_away 55 = .ok (.goto 4, 3) := dk_167 0 4 (dk_at dksX7_away_2 8 rfl rfl)
theorem dX7_away_58 : decode cX7_away 58 = .ok (.iload_n 3, 1) := dk_29 (dk_at dksX7_away_2 11 rfl rfl)
theorem dX7_away_59 : decode cX7_away 59 = .ok (.iload 4, 2) := dk_21 4 (dk_at dksX7_away_2 12 rfl rfl)
theorem dX7_away_61 : decode cX7_away 61 = .ok (.ifCond .ge 9, 3) := dk_156 0 9 (dk_at dksX7_away_2 14 rfl rfl)
theorem dX7_away_64 : decode cX7_away 64 = .ok (.iload 4, 2) := dk_21 4 (dk_at dksX7_away_2 17 rfl rfl)
theorem dX7_away_66 : decode cX7_away 66 = .ok (.ineg, 1) := dk_116 (dk_at dksX7_away_2 19 rfl rfl)
theorem dX7_away_67 : decode cX7_away 67 = .ok (.goto 5, 3) := dk_167 0 5 (dk_at dksX7_away_2 20 rfl rfl)
theorem dX7_away_70 : decode cX7_away 70 = .ok (.iload 4, 2) := dk_21 4 (dk_at dksX7_away_3 0 rfl rfl)
theorem dX7_away_72 : decode cX7_away 72 = .ok (.iadd, 1) := dk_96 (dk_at dksX7_away_3 2 rfl rfl)
theorem dX7_away_73 : decode cX7_away 73 = .ok (.ireturn, 1) := dk_172 (dk_at dksX7_away_3 3 rfl rfl)
def dkwX7_led_2 : List UInt8 := [180, 0, 86, 27, 46, 167, 0, 4, 2, 172]
abbrev dktX7_led_2 : List UInt8 := dkwX7_led_2 ++ []
def dkwX7_led_1 : List UInt8 := [180, 1, 243, 167, 0, 29, 27, 133, 9, 42, 180, 1, 240, 133, 10, 101, 184, 0, 121, 153, 0, 12, 42]
abbrev dktX7_led_1 : List UInt8 := dkwX7_led_1 ++ dktX7_led_2
def dkwX7_led_0 : List UInt8 := [42, 3, 181, 0, 113, 42, 180, 1, 237, 154, 0, 7, 2, 167, 0, 41, 27, 2, 160, 0, 10, 42]
abbrev dktX7_led_0 : List UInt8 := dkwX7_led_0 ++ dktX7_led_1
theorem dksX7_led_0 : cX7_led.data.toList.drop 0 = dktX7_led_0 := by decide +kernel
theorem dksX7_led_1 : cX7_led.data.toList.drop 22 = dktX7_led_1 := dk_seg dksX7_led_0 22 rfl rfl
theorem dksX7_led_2 : cX7_led.data.toList.drop 45 = dktX7_led_2 := dk_seg dksX7_led_1 23 rfl rfl
theorem dX7_led_0 : decode cX7_led 0 = .ok (.aload_n 0, 1) := dk_42 (dk_at dksX7_led_0 0 rfl rfl)
theorem dX7_led_1 : decode cX7_led 1 = .ok (.iconst 0, 1) := dk_3 (dk_at dksX7_led_0 1 rfl rfl)
theorem dX7_led_2 : decode cX7_led 2 = .ok (.putfield 113, 3) := dk_181 0 113 (dk_at dksX7_led_0 2 rfl rfl)
theorem dX7_led_5 : decode cX7_led 5 = .ok (.aload_n 0, 1) := dk_42 (dk_at dksX7_led_0 5 rfl rfl)
theorem dX7_led_6 : decode cX7_led 6 = .ok (.getfield 493, 3) := dk_180 1 237 (dk_at dksX7_led_0 6 rfl rfl)
theorem dX7_led_9 : decode cX7_led 9 = .ok (.ifCond .ne 7, 3) := dk_154 0 7 (dk_at dksX7_led_0 9 rfl rfl)
theorem dX7_led_12 : decode cX7_led 12 = .ok (.iconst (-1), 1) := dk_2 (dk_at dksX7_led_0 12 rfl rfl)
theorem dX7_led_13 : decode cX7_led 13 = .ok (.goto 41, 3) := dk_167 0 41 (dk_at dksX7_led_0 13 rfl rfl)
theorem dX7_led_16 : decode cX7_led 16 = .ok (.iload_n 1, 1) := dk_27 (dk_at dksX7_led_0 16 rfl rfl)
theorem dX7_led_17 : decode cX7_led 17 = .ok (.iconst (-1), 1) := dk_2 (dk_at dksX7_led_0 17 rfl rfl)
theorem dX7_led_18 : decode cX7_led 18 = .ok (.if_icmp .ne 10, 3) := dk_160 0 10 (dk_at dksX7_led_0 18 rfl rfl)
theorem dX7_led_21 : decode cX7_led 21 = .ok (.aload_n 0, 1) := dk_42 (dk_at dksX7_led_0 21 rfl rfl)
theorem dX7_led_22 : decode cX7_led 22 = .ok (.getfield 499, 3) := dk_180 1 243 (dk_at dksX7_led_1 0 rfl rfl)
theorem dX7_led_25 : decode cX7_led 25 = .ok (.goto 29, 3) := dk_167 0 29 (dk_at dksX7_led_1 3 rfl rfl)
theorem dX7_led_28 : decode cX7_led 28 = .ok (.iload_n 1, 1) := dk_27 (dk_at dksX7_led_1 6 rfl rfl)
theorem dX7_led_29 : decode cX7_led 29 = .ok (.i2l, 1) := dk_133 (dk_at dksX7_led_1 7 rfl rfl)
theorem dX7_led_30 : decode cX7_led 30 = .ok (.lconst 0, 1) := dk_9 (dk_at dksX7_led_1 8 rfl rfl)
theorem dX7_led_31 : decode cX7_led 31 = .ok (.aload_n 0, 1) := dk_42 (dk_at dksX7_led_1 9 rfl rfl)
theorem dX7_led_32 : decode cX7_led 32 = .ok (.getfield 496, 3) := dk_180 1 240 (dk_at dksX7_led_1 10 rfl rfl)
theorem dX7_led_35 : decode cX7_led 35 = .ok (.i2l, 1) := dk_133 (dk_at dksX7_led_1 13 rfl rfl)
theorem dX7_led_36 : decode cX7_led 36 = .ok (.lconst 1, 1) := dk_10 (dk_at dksX7_led_1 14 rfl rfl)
theorem dX7_led_37 : decode cX7_led 37 = .ok (.lsub, 1) := dk_101 (dk_at dksX7_led_1 15 rfl rfl)
theorem dX7_led_38 : decode cX7_led 38 = .ok (.invokestatic 121, 3) := dk_184 0 121 (dk_at dksX7_led_1 16 rfl rfl)
theorem dX7_led_41 : decode cX7_led 41 = .ok (.ifCond .eq 12, 3) := dk_153 0 12 (dk_at dksX7_led_1 19 rfl rfl)
theorem dX7_led_44 : decode cX7_led 44 = .ok (.aload_n 0, 1) := dk_42 (dk_at dksX7_led_1 22 rfl rfl)
theorem dX7_led_45 : decode cX7_led 45 = .ok (.getfield 86, 3) := dk_180 0 86 (dk_at dksX7_led_2 0 rfl rfl)
theorem dX7_led_48 : decode cX7_led 48 = .ok (.iload_n 1, 1) := dk_27 (dk_at dksX7_led_2 3 rfl rfl)
theorem dX7_led_49 : decode cX7_led 49 = .ok (.iaload, 1) := dk_46 (dk_at dksX7_led_2 4 rfl rfl)
theorem dX7_led_50 : decode cX7_led 50 = .ok (.goto 4, 3) := dk_167 0 4 (dk_at dksX7_led_2 5 rfl rfl)
theorem dX7_led_53 : decode cX7_led 53 = .ok (.iconst (-1), 1) := dk_2 (dk_at dksX7_led_2 8 rfl rfl)
theorem dX7_led_54 : decode cX7_led 54 = .ok (.ireturn, 1) := dk_172 (dk_at dksX7_led_2 9 rfl rfl)
def dkwX7_judge_2 : List UInt8 := [29, 182, 1, 228, 42, 27, 182, 1, 234, 172]
abbrev dktX7_judge_2 : List UInt8 := dkwX7_judge_2 ++ []
def dkwX7_judge_1 : List UInt8 := [184, 0, 159, 153, 0, 17, 29, 184, 0, 159, 153, 0, 10, 42, 182, 1, 225, 154, 0, 5, 2, 172, 42, 28]
abbrev dktX7_judge_1 : List UInt8 := dkwX7_judge_1 ++ dktX7_judge_2
def dkwX7_judge_0 : List UInt8 := [42, 3, 181, 0, 113, 27, 133, 9, 10, 42, 180, 1, 215, 121, 10, 101, 184, 0, 121, 153, 0, 24, 28]
abbrev dktX7_judge_0 : List UInt8 := dkwX7_judge_0 ++ dktX7_judge_1
theorem dksX7_judge_0 : cX7_judge.data.toList.drop 0 = dktX7_judge_0 := by decide +kernel
theorem dksX7_judge_1 : cX7_judge.data.toList.drop 23 = dktX7_judge_1 := dk_seg dksX7_judge_0 23 rfl rfl
theorem dksX7_judge_2 : cX7_judge.data.toList.drop 47 = dktX7_judge_2 := dk_seg dksX7_judge_1 24 rfl rfl
theorem dX7_judge_0 : decode cX7_judge 0 = .ok (.aload_n 0, 1) := dk_42 (dk_at dksX7_judge_0 0 rfl rfl)
theorem dX7_judge_1 : decode cX7_judge 1 = .ok (.iconst 0, 1) := dk_3 (dk_at dksX7_judge_0 1 rfl rfl)
theorem dX7_judge_2 : decode cX7_judge 2 = .ok (.putfield 113, 3) := dk_181 0 113 (dk_at dksX7_judge_0 2 rfl rfl)
theorem dX7_judge_5 : decode cX7_judge 5 = .ok (.iload_n 1, 1) := dk_27 (dk_at dksX7_judge_0 5 rfl rfl)
theorem dX7_judge_6 : decode cX7_judge 6 = .ok (.i2l, 1) := dk_133 (dk_at dksX7_judge_0 6 rfl rfl)
theorem dX7_judge_7 : decode cX7_judge 7 = .ok (.lconst 0, 1) := dk_9 (dk_at dksX7_judge_0 7 rfl rfl)
theorem dX7_judge_8 : decode cX7_judge 8 = .ok (.lconst 1, 1) := dk_10 (dk_at dksX7_judge_0 8 rfl rfl)
theorem dX7_judge_9 : decode cX7_judge 9 = .ok (.aload_n 0, 1) := dk_42 (dk_at dksX7_judge_0 9 rfl rfl)
theorem dX7_judge_10 : decode cX7_judge 10 = .ok (.getfield 471, 3) := dk_180 1 215 (dk_at dksX7_judge_0 10 rfl rfl)
theorem dX7_judge_13 : decode cX7_judge 13 = .ok (.lshl, 1) := dk_121 (dk_at dksX7_judge_0 13 rfl rfl)
theorem dX7_judge_14 : decode cX7_judge 14 = .ok (.lconst 1, 1) := dk_10 (dk_at dksX7_judge_0 14 rfl rfl)
theorem dX7_judge_15 : decode cX7_judge 15 = .ok (.lsub, 1) := dk_101 (dk_at dksX7_judge_0 15 rfl rfl)
theorem dX7_judge_16 : decode cX7_judge 16 = .ok (.invokestatic 121, 3) := dk_184 0 121 (dk_at dksX7_judge_0 16 rfl rfl)
theorem dX7_judge_19 : decode cX7_judge 19 = .ok (.ifCond .eq 24, 3) := dk_153 0 24 (dk_at dksX7_judge_0 19 rfl rfl)
theorem dX7_judge_22 : decode cX7_judge 22 = .ok (.iload_n 2, 1) := dk_28 (dk_at dksX7_judge_0 22 rfl rfl)
theorem dX7_judge_23 : decode cX7_judge 23 = .ok (.invokestatic 159, 3) := dk_184 0 159 (dk_at dksX7_judge_1 0 rfl rfl)
theorem dX7_judge_26 : decode cX7_judge 26 = .ok (.ifCond .eq 17, 3) := dk_153 0 17 (dk_at dksX7_judge_1 3 rfl rfl)
theorem dX7_judge_29 : decode cX7_judge 29 = .ok (.iload_n 3, 1) := dk_29 (dk_at dksX7_judge_1 6 rfl rfl)
theorem dX7_judge_30 : decode cX7_judge 30 = .ok (.invokestatic 159, 3) := dk_184 0 159 (dk_at dksX7_judge_1 7 rfl rfl)
theorem dX7_judge_33 : decode cX7_judge 33 = .ok (.ifCond .eq 10, 3) := dk_153 0 10 (dk_at dksX7_judge_1 10 rfl rfl)
theorem dX7_judge_36 : decode cX7_judge 36 = .ok (.aload_n 0, 1) := dk_42 (dk_at dksX7_judge_1 13 rfl rfl)
theorem dX7_judge_37 : decode cX7_judge 37 = .ok (.invokevirtual 481, 3) := dk_182 1 225 (dk_at dksX7_judge_1 14 rfl rfl)
theorem dX7_judge_40 : decode cX7_judge 40 = .ok (.ifCond .ne 5, 3) := dk_154 0 5 (dk_at dksX7_judge_1 17 rfl rfl)
theorem dX7_judge_43 : decode cX7_judge 43 = .ok (.iconst (-1), 1) := dk_2 (dk_at dksX7_judge_1 20 rfl rfl)
theorem dX7_judge_44 : decode cX7_judge 44 = .ok (.ireturn, 1) := dk_172 (dk_at dksX7_judge_1 21 rfl rfl)
theorem dX7_judge_45 : decode cX7_judge 45 = .ok (.aload_n 0, 1) := dk_42 (dk_at dksX7_judge_1 22 rfl rfl)
theorem dX7_judge_46 : decode cX7_judge 46 = .ok (.iload_n 2, 1) := dk_28 (dk_at dksX7_judge_1 23 rfl rfl)
theorem dX7_judge_47 : decode cX7_judge 47 = .ok (.iload_n 3, 1) := dk_29 (dk_at dksX7_judge_2 0 rfl rfl)
theorem dX7_judge_48 : decode cX7_judge 48 = .ok (.invokevirtual 484, 3) := dk_182 1 228 (dk_at dksX7_judge_2 1 rfl rfl)
theorem dX7_judge_51 : decode cX7_judge 51 = .ok (.aload_n 0, 1) := dk_42 (dk_at dksX7_judge_2 4 rfl rfl)
theorem dX7_judge_52 : decode cX7_judge 52 = .ok (.iload_n 1, 1) := dk_27 (dk_at dksX7_judge_2 5 rfl rfl)
theorem dX7_judge_53 : decode cX7_judge 53 = .ok (.invokevirtual 490, 3) := dk_182 1 234 (dk_at dksX7_judge_2 6 rfl rfl)
theorem dX7_judge_56 : decode cX7_judge 56 = .ok (.ireturn, 1) := dk_172 (dk_at dksX7_judge_2 9 rfl rfl)
def dkwX7_booth_4 : List UInt8 := [172]
abbrev dktX7_booth_4 : List UInt8 := dkwX7_booth_4 ++ []
def dkwX7_booth_3 : List UInt8 := [3, 79, 42, 180, 0, 7, 6, 92, 46, 4, 96, 79, 42, 42, 180, 0, 7, 6, 46, 4, 100, 182, 0, 125]
abbrev dktX7_booth_3 : List UInt8 := dkwX7_booth_3 ++ dktX7_booth_4
def dkwX7_booth_2 : List UInt8 := [180, 0, 7, 6, 46, 96, 27, 79, 42, 180, 0, 7, 17, 9, 64, 7, 42, 180, 0, 7, 6, 46, 104, 96]
abbrev dktX7_booth_2 : List UInt8 := dkwX7_booth_2 ++ dktX7_booth_3
def dkwX7_booth_1 : List UInt8 := [6, 46, 16, 20, 160, 0, 10, 42, 16, 251, 182, 0, 125, 172, 42, 180, 0, 7, 17, 9, 44, 42]
abbrev dktX7_booth_1 : List UInt8 := dkwX7_booth_1 ++ dktX7_booth_2
def dkwX7_booth_0 : List UInt8 := [42, 3, 181, 0, 113, 42, 27, 182, 0, 162, 154, 0, 10, 42, 16, 254, 182, 0, 125, 172, 42, 180, 0, 7]
abbrev dktX7_booth_0 : List UInt8 := dkwX7_booth_0 ++ dktX7_booth_1
theorem dksX7_booth_0 : cX7_booth.data.toList.drop 0 = dktX7_booth_0 := by decide +kernel
theorem dksX7_booth_1 : cX7_booth.data.toList.drop 24 = dktX7_booth_1 := dk_seg dksX7_booth_0 24 rfl rfl
theorem dksX7_booth_2 : cX7_booth.data.toList.drop 46 = dktX7_booth_2 := dk_seg dksX7_booth_1 22 rfl rfl
theorem dksX7_booth_3 : cX7_booth.data.toList.drop 70 = dktX7_booth_3 := dk_seg dksX7_booth_2 24 rfl rfl
theorem dksX7_booth_4 : cX7_booth.data.toList.drop 94 = dktX7_booth_4 := dk_seg dksX7_booth_3 24 rfl rfl
theorem dX7_booth_0 : decode cX7_booth 0 = .ok (.aload_n 0, 1) := dk_42 (dk_at dksX7_booth_0 0 rfl rfl)
theorem dX7_booth_1 : decode cX7_booth 1 = .ok (.iconst 0, 1) := dk_3 (dk_at dksX7_booth_0 1 rfl rfl)
theorem dX7_booth_2 : decode cX7_booth 2 = .ok (.putfield 113, 3) := dk_181 0 113 (dk_at dksX7_booth_0 2 rfl rfl)
theorem dX7_booth_5 : decode cX7_booth 5 = .ok (.aload_n 0, 1) := dk_42 (dk_at dksX7_booth_0 5 rfl rfl)
theorem dX7_booth_6 : decode cX7_booth 6 = .ok (.iload_n 1, 1) := dk_27 (dk_at dksX7_booth_0 6 rfl rfl)
theorem dX7_booth_7 : decode cX7_booth 7 = .ok (.invokevirtual 162, 3) := dk_182 0 162 (dk_at dksX7_booth_0 7 rfl rfl)
theorem dX7_booth_10 : decode cX7_booth 10 = .ok (.ifCond .ne 10, 3) := dk_154 0 10 (dk_at dksX7_booth_0 10 rfl rfl)
theorem dX7_booth_13 : decode cX7_booth 13 = .ok (.aload_n 0, 1) := dk_42 (dk_at dksX7_booth_0 13 rfl rfl)
theorem dX7_booth_14 : decode cX7_booth 14 = .ok (.bipush (-2), 2) := dk_16 254 (dk_at dksX7_booth_0 14 rfl rfl)
theorem dX7_booth_16 : decode cX7_booth 16 = .ok (.invokevirtual 125, 3) := dk_182 0 125 (dk_at dksX7_booth_0 16 rfl rfl)
theorem dX7_booth_19 : decode cX7_booth 19 = .ok (.ireturn, 1) := dk_172 (dk_at dksX7_booth_0 19 rfl rfl)
theorem dX7_booth_20 : decode cX7_booth 20 = .ok (.aload_n 0, 1) := dk_42 (dk_at dksX7_booth_0 20 rfl rfl)
theorem dX7_booth_21 : decode cX7_booth 21 = .ok (.getfield 7, 3) := dk_180 0 7 (dk_at dksX7_booth_0 21 rfl rfl)
theorem dX7_booth_24 : decode cX7_booth 24 = .ok (.iconst 3, 1) := dk_6 (dk_at dksX7_booth_1 0 rfl rfl)
theorem dX7_booth_25 : decode cX7_booth 25 = .ok (.iaload, 1) := dk_46 (dk_at dksX7_booth_1 1 rfl rfl)
theorem dX7_booth_26 : decode cX7_booth 26 = .ok (.bipush 20, 2) := dk_16 20 (dk_at dksX7_booth_1 2 rfl rfl)
theorem dX7_booth_28 : decode cX7_booth 28 = .ok (.if_icmp .ne 10, 3) := dk_160 0 10 (dk_at dksX7_booth_1 4 rfl rfl)
theorem dX7_booth_31 : decode cX7_booth 31 = .ok (.aload_n 0, 1) := dk_42 (dk_at dksX7_booth_1 7 rfl rfl)
theorem dX7_booth_32 : decode cX7_booth 32 = .ok (.bipush (-5), 2) := dk_16 251 (dk_at dksX7_booth_1 8 rfl rfl)
theorem dX7_booth_34 : decode cX7_booth 34 = .ok (.invokevirtual 125, 3) := dk_182 0 125 (dk_at dksX7_booth_1 10 rfl rfl)
theorem dX7_booth_37 : decode cX7_booth 37 = .ok (.ireturn, 1) := dk_172 (dk_at dksX7_booth_1 13 rfl rfl)
theorem dX7_booth_38 : decode cX7_booth 38 = .ok (.aload_n 0, 1) := dk_42 (dk_at dksX7_booth_1 14 rfl rfl)
theorem dX7_booth_39 : decode cX7_booth 39 = .ok (.getfield 7, 3) := dk_180 0 7 (dk_at dksX7_booth_1 15 rfl rfl)
theorem dX7_booth_42 : decode cX7_booth 42 = .ok (.sipush 2348, 3) := dk_17 9 44 (dk_at dksX7_booth_1 18 rfl rfl)
theorem dX7_booth_45 : decode cX7_booth 45 = .ok (.aload_n 0, 1) := dk_42 (dk_at dksX7_booth_1 21 rfl rfl)
theorem dX7_booth_46 : decode cX7_booth 46 = .ok (.getfield 7, 3) := dk_180 0 7 (dk_at dksX7_booth_2 0 rfl rfl)
theorem dX7_booth_49 : decode cX7_booth 49 = .ok (.iconst 3, 1) := dk_6 (dk_at dksX7_booth_2 3 rfl rfl)
theorem dX7_booth_50 : decode cX7_booth 50 = .ok (.iaload, 1) := dk_46 (dk_at dksX7_booth_2 4 rfl rfl)
theorem dX7_booth_51 : decode cX7_booth 51 = .ok (.iadd, 1) := dk_96 (dk_at dksX7_booth_2 5 rfl rfl)
theorem dX7_booth_52 : decode cX7_booth 52 = .ok (.iload_n 1, 1) := dk_27 (dk_at dksX7_booth_2 6 rfl rfl)
theorem dX7_booth_53 : decode cX7_booth 53 = .ok (.iastore, 1) := dk_79 (dk_at dksX7_booth_2 7 rfl rfl)
theorem dX7_booth_54 : decode cX7_booth 54 = .ok (.aload_n 0, 1) := dk_42 (dk_at dksX7_booth_2 8 rfl rfl)
theorem dX7_booth_55 : decode cX7_booth 55 = .ok (.getfield 7, 3) := dk_180 0 7 (dk_at dksX7_booth_2 9 rfl rfl)
theorem dX7_booth_58 : decode cX7_booth 58 = .ok (.sipush 2368, 3) := dk_17 9 64 (dk_at dksX7_booth_2 12 rfl rfl)
theorem dX7_booth_61 : decode cX7_booth 61 = .ok (.iconst 4, 1) := dk_7 (dk_at dksX7_booth_2 15 rfl rfl)
theorem dX7_booth_62 : decode cX7_booth 62 = .ok (.aload_n 0, 1) := dk_42 (dk_at dksX7_booth_2 16 rfl rfl)
theorem dX7_booth_63 : decode cX7_booth 63 = .ok (.getfield 7, 3) := dk_180 0 7 (dk_at dksX7_booth_2 17 rfl rfl)
theorem dX7_booth_66 : decode cX7_booth 66 = .ok (.iconst 3, 1) := dk_6 (dk_at dksX7_booth_2 20 rfl rfl)
theorem dX7_booth_67 : decode cX7_booth 67 = .ok (.iaload, 1) := dk_46 (dk_at dksX7_booth_2 21 rfl rfl)
theorem dX7_booth_68 : decode cX7_booth 68 = .ok (.imul, 1) := dk_104 (dk_at dksX7_booth_2 22 rfl rfl)
theorem dX7_booth_69 : decode cX7_booth 69 = .ok (.iadd, 1) := dk_96 (dk_at dksX7_booth_2 23 rfl rfl)
theorem dX7_booth_70 : decode cX7_booth 70 = .ok (.iconst 0, 1) := dk_3 (dk_at dksX7_booth_3 0 rfl rfl)
theorem dX7_booth_71 : decode cX7_booth 71 = .ok (.iastore, 1) := dk_79 (dk_at dksX7_booth_3 1 rfl rfl)
theorem dX7_booth_72 : decode cX7_booth 72 = .ok (.aload_n 0, 1) := dk_42 (dk_at dksX7_booth_3 2 rfl rfl)
theorem dX7_booth_73 : decode cX7_booth 73 = .ok (.getfield 7, 3) := dk_180 0 7 (dk_at dksX7_booth_3 3 rfl rfl)
theorem dX7_booth_76 : decode cX7_booth 76 = .ok (.iconst 3, 1) := dk_6 (dk_at dksX7_booth_3 6 rfl rfl)
theorem dX7_booth_77 : decode cX7_booth 77 = .ok (.dup2, 1) := dk_92 (dk_at dksX7_booth_3 7 rfl rfl)
theorem dX7_booth_78 : decode cX7_booth 78 = .ok (.iaload, 1) := dk_46 (dk_at dksX7_booth_3 8 rfl rfl)
theorem dX7_booth_79 : decode cX7_booth 79 = .ok (.iconst 1, 1) := dk_4 (dk_at dksX7_booth_3 9 rfl rfl)
theorem dX7_booth_80 : decode cX7_booth 80 = .ok (.iadd, 1) := dk_96 (dk_at dksX7_booth_3 10 rfl rfl)
theorem dX7_booth_81 : decode cX7_booth 81 = .ok (.iastore, 1) := dk_79 (dk_at dksX7_booth_3 11 rfl rfl)
theorem dX7_booth_82 : decode cX7_booth 82 = .ok (.aload_n 0, 1) := dk_42 (dk_at dksX7_booth_3 12 rfl rfl)
theorem dX7_booth_83 : decode cX7_booth 83 = .ok (.aload_n 0, 1) := dk_42 (dk_at dksX7_booth_3 13 rfl rfl)
theorem dX7_booth_84 : decode cX7_booth 84 = .ok (.getfield 7, 3) := dk_180 0 7 (dk_at dksX7_booth_3 14 rfl rfl)
theorem dX7_booth_87 : decode cX7_booth 87 = .ok (.iconst 3, 1) := dk_6 (dk_at dksX7_booth_3 17 rfl rfl)
theorem dX7_booth_88 : decode cX7_booth 88 = .ok (.iaload, 1) := dk_46 (dk_at dksX7_booth_3 18 rfl rfl)
theorem dX7_booth_89 : decode cX7_booth 89 = .ok (.iconst 1, 1) := dk_4 (dk_at dksX7_booth_3 19 rfl rfl)
theorem dX7_booth_90 : decode cX7_booth 90 = .ok (.isub, 1) := dk_100 (dk_at dksX7_booth_3 20 rfl rfl)
theorem dX7_booth_91 : decode cX7_booth 91 = .ok (.invokevirtual 125, 3) := dk_182 0 125 (dk_at dksX7_booth_3 21 rfl rfl)
theorem dX7_booth_94 : decode cX7_booth 94 = .ok (.ireturn, 1) := dk_172 (dk_at dksX7_booth_4 0 rfl rfl)
def dkwX7_box_4 : List UInt8 := [42, 180, 0, 7, 7, 92, 46, 4, 96, 79, 42, 42, 180, 0, 7, 7, 46, 4, 100, 182, 0, 125, 172]
abbrev dktX7_box_4 : List UInt8 := dkwX7_box_4 ++ []
def dkwX7_box_3 : List UInt8 := [104, 96, 27, 79, 42, 180, 0, 7, 17, 9, 144, 5, 42, 180, 0, 7, 7, 46, 104, 96, 4, 96, 28, 79]
abbrev dktX7_box_3 : List UInt8 := dkwX7_box_3 ++ dktX7_box_4
def dkwX7_box_2 : List UInt8 := [160, 0, 10, 42, 16, 251, 182, 0, 125, 172, 42, 180, 0, 7, 17, 9, 144, 5, 42, 180, 0, 7, 7, 46]
abbrev dktX7_box_2 : List UInt8 := dkwX7_box_2 ++ dktX7_box_3
def dkwX7_box_1 : List UInt8 := [27, 182, 1, 248, 154, 0, 10, 42, 16, 254, 182, 0, 125, 172, 42, 180, 0, 7, 7, 46, 16, 40]
abbrev dktX7_box_1 : List UInt8 := dkwX7_box_1 ++ dktX7_box_2
def dkwX7_box_0 : List UInt8 := [42, 3, 181, 0, 113, 28, 133, 9, 20, 1, 246, 184, 0, 121, 154, 0, 9, 42, 2, 182, 0, 125, 172, 42]
abbrev dktX7_box_0 : List UInt8 := dkwX7_box_0 ++ dktX7_box_1
theorem dksX7_box_0 : cX7_box.data.toList.drop 0 = dktX7_box_0 := by decide +kernel
theorem dksX7_box_1 : cX7_box.data.toList.drop 24 = dktX7_box_1 := dk_seg dksX7_box_0 24 rfl rfl
theorem dksX7_box_2 : cX7_box.data.toList.drop 46 = dktX7_box_2 := dk_seg dksX7_box_1 22 rfl rfl
theorem dksX7_box_3 : cX7_box.data.toList.drop 70 = dktX7_box_3 := dk_seg dksX7_box_2 24 rfl rfl
theorem dksX7_box_4 : cX7_box.data.toList.drop 94 = dktX7_box_4 := dk_seg dksX7_box_3 24 rfl rfl
theorem dX7_box_0 : decode cX7_box 0 = .ok (.aload_n 0, 1) := dk_42 (dk_at dksX7_box_0 0 rfl rfl)
theorem dX7_box_1 : decode cX7_box 1 = .ok (.iconst 0, 1) := dk_3 (dk_at dksX7_box_0 1 rfl rfl)
theorem dX7_box_2 : decode cX7_box 2 = .ok (.putfield 113, 3) := dk_181 0 113 (dk_at dksX7_box_0 2 rfl rfl)
theorem dX7_box_5 : decode cX7_box 5 = .ok (.iload_n 2, 1) := dk_28 (dk_at dksX7_box_0 5 rfl rfl)
theorem dX7_box_6 : decode cX7_box 6 = .ok (.i2l, 1) := dk_133 (dk_at dksX7_box_0 6 rfl rfl)
theorem dX7_box_7 : decode cX7_box 7 = .ok (.lconst 0, 1) := dk_9 (dk_at dksX7_box_0 7 rfl rfl)
theorem dX7_box_8 : decode cX7_box 8 = .ok (.ldc2_w 502, 3) := dk_20 1 246 (dk_at dksX7_box_0 8 rfl rfl)
theorem dX7_box_11 : decode cX7_box 11 = .ok (.invokestatic 121, 3) := dk_184 0 121 (dk_at dksX7_box_0 11 rfl rfl)
theorem dX7_box_14 : decode cX7_box 14 = .ok (.ifCond .ne 9, 3) := dk_154 0 9 (dk_at dksX7_box_0 14 rfl rfl)
theorem dX7_box_17 : decode cX7_box 17 = .ok (.aload_n 0, 1) := dk_42 (dk_at dksX7_box_0 17 rfl rfl)
theorem dX7_box_18 : decode cX7_box 18 = .ok (.iconst (-1), 1) := dk_2 (dk_at dksX7_box_0 18 rfl rfl)
theorem dX7_box_19 : decode cX7_box 19 = .ok (.invokevirtual 125, 3) := dk_182 0 125 (dk_at dksX7_box_0 19 rfl rfl)
theorem dX7_box_22 : decode cX7_box 22 = .ok (.ireturn, 1) := dk_172 (dk_at dksX7_box_0 22 rfl rfl)
theorem dX7_box_23 : decode cX7_box 23 = .ok (.aload_n 0, 1) := dk_42 (dk_at dksX7_box_0 23 rfl rfl)
theorem dX7_box_24 : decode cX7_box 24 = .ok (.iload_n 1, 1) := dk_27 (dk_at dksX7_box_1 0 rfl rfl)
theorem dX7_box_25 : decode cX7_box 25 = .ok (.invokevirtual 504, 3) := dk_182 1 248 (dk_at dksX7_box_1 1 rfl rfl)
theorem dX7_box_28 : decode cX7_box 28 = .ok (.ifCond .ne 10, 3) := dk_154 0 10 (dk_at dksX7_box_1 4 rfl rfl)
theorem dX7_box_31 : decode cX7_box 31 = .ok (.aload_n 0, 1) := dk_42 (dk_at dksX7_box_1 7 rfl rfl)
theorem dX7_box_32 : decode cX7_box 32 = .ok (.bipush (-2), 2) := dk_16 254 (dk_at dksX7_box_1 8 rfl rfl)
theorem dX7_box_34 : decode cX7_box 34 = .ok (.invokevirtual 125, 3) := dk_182 0 125 (dk_at dksX7_box_1 10 rfl rfl)
theorem dX7_box_37 : decode cX7_box 37 = .ok (.ireturn, 1) := dk_172 (dk_at dksX7_box_1 13 rfl rfl)
theorem dX7_box_38 : decode cX7_box 38 = .ok (.aload_n 0, 1) := dk_42 (dk_at dksX7_box_1 14 rfl rfl)
theorem dX7_box_39 : decode cX7_box 39 = .ok (.getfield 7, 3) := dk_180 0 7 (dk_at dksX7_box_1 15 rfl rfl)
theorem dX7_box_42 : decode cX7_box 42 = .ok (.iconst 4, 1) := dk_7 (dk_at dksX7_box_1 18 rfl rfl)
theorem dX7_box_43 : decode cX7_box 43 = .ok (.iaload, 1) := dk_46 (dk_at dksX7_box_1 19 rfl rfl)
theorem dX7_box_44 : decode cX7_box 44 = .ok (.bipush 40, 2) := dk_16 40 (dk_at dksX7_box_1 20 rfl rfl)
theorem dX7_box_46 : decode cX7_box 46 = .ok (.if_icmp .ne 10, 3) := dk_160 0 10 (dk_at dksX7_box_2 0 rfl rfl)
theorem dX7_box_49 : decode cX7_box 49 = .ok (.aload_n 0, 1) := dk_42 (dk_at dksX7_box_2 3 rfl rfl)
theorem dX7_box_50 : decode cX7_box 50 = .ok (.bipush (-5), 2) := dk_16 251 (dk_at dksX7_box_2 4 rfl rfl)
theorem dX7_box_52 : decode cX7_box 52 = .ok (.invokevirtual 125, 3) := dk_182 0 125 (dk_at dksX7_box_2 6 rfl rfl)
theorem dX7_box_55 : decode cX7_box 55 = .ok (.ireturn, 1) := dk_172 (dk_at dksX7_box_2 9 rfl rfl)
theorem dX7_box_56 : decode cX7_box 56 = .ok (.aload_n 0, 1) := dk_42 (dk_at dksX7_box_2 10 rfl rfl)
theorem dX7_box_57 : decode cX7_box 57 = .ok (.getfield 7, 3) := dk_180 0 7 (dk_at dksX7_box_2 11 rfl rfl)
theorem dX7_box_60 : decode cX7_box 60 = .ok (.sipush 2448, 3) := dk_17 9 144 (dk_at dksX7_box_2 14 rfl rfl)
theorem dX7_box_63 : decode cX7_box 63 = .ok (.iconst 2, 1) := dk_5 (dk_at dksX7_box_2 17 rfl rfl)
theorem dX7_box_64 : decode cX7_box 64 = .ok (.aload_n 0, 1) := dk_42 (dk_at dksX7_box_2 18 rfl rfl)
theorem dX7_box_65 : decode cX7_box 65 = .ok (.getfield 7, 3) := dk_180 0 7 (dk_at dksX7_box_2 19 rfl rfl)
theorem dX7_box_68 : decode cX7_box 68 = .ok (.iconst 4, 1) := dk_7 (dk_at dksX7_box_2 22 rfl rfl)
theorem dX7_box_69 : decode cX7_box 69 = .ok (.iaload, 1) := dk_46 (dk_at dksX7_box_2 23 rfl rfl)
theorem dX7_box_70 : decode cX7_box 70 = .ok (.imul, 1) := dk_104 (dk_at dksX7_box_3 0 rfl rfl)
theorem dX7_box_71 : decode cX7_box 71 = .ok (.iadd, 1) := dk_96 (dk_at dksX7_box_3 1 rfl rfl)
theorem dX7_box_72 : decode cX7_box 72 = .ok (.iload_n 1, 1) := dk_27 (dk_at dksX7_box_3 2 rfl rfl)
theorem dX7_box_73 : decode cX7_box 73 = .ok (.iastore, 1) := dk_79 (dk_at dksX7_box_3 3 rfl rfl)
theorem dX7_box_74 : decode cX7_box 74 = .ok (.aload_n 0, 1) := dk_42 (dk_at dksX7_box_3 4 rfl rfl)
theorem dX7_box_75 : decode cX7_box 75 = .ok (.getfield 7, 3) := dk_180 0 7 (dk_at dksX7_box_3 5 rfl rfl)
theorem dX7_box_78 : decode cX7_box 78 = .ok (.sipush 2448, 3) := dk_17 9 144 (dk_at dksX7_box_3 8 rfl rfl)
theorem dX7_box_81 : decode cX7_box 81 = .ok (.iconst 2, 1) := dk_5 (dk_at dksX7_box_3 11 rfl rfl)
theorem dX7_box_82 : decode cX7_box 82 = .ok (.aload_n 0, 1) := dk_42 (dk_at dksX7_box_3 12 rfl rfl)
theorem dX7_box_83 : decode cX7_box 83 = .ok (.getfield 7, 3) := dk_180 0 7 (dk_at dksX7_box_3 13 rfl rfl)
theorem dX7_box_86 : decode cX7_box 86 = .ok (.iconst 4, 1) := dk_7 (dk_at dksX7_box_3 16 rfl rfl)
theorem dX7_box_87 : decode cX7_box 87 = .ok (.iaload, 1) := dk_46 (dk_at dksX7_box_3 17 rfl rfl)
theorem dX7_box_88 : decode cX7_box 88 = .ok (.imul, 1) := dk_104 (dk_at dksX7_box_3 18 rfl rfl)
theorem dX7_box_89 : decode cX7_box 89 = .ok (.iadd, 1) := dk_96 (dk_at dksX7_box_3 19 rfl rfl)
theorem dX7_box_90 : decode cX7_box 90 = .ok (.iconst 1, 1) := dk_4 (dk_at dksX7_box_3 20 rfl rfl)
theorem dX7_box_91 : decode cX7_box 91 = .ok (.iadd, 1) := dk_96 (dk_at dksX7_box_3 21 rfl rfl)
theorem dX7_box_92 : decode cX7_box 92 = .ok (.iload_n 2, 1) := dk_28 (dk_at dksX7_box_3 22 rfl rfl)
theorem dX7_box_93 : decode cX7_box 93 = .ok (.iastore, 1) := dk_79 (dk_at dksX7_box_3 23 rfl rfl)
theorem dX7_box_94 : decode cX7_box 94 = .ok (.aload_n 0, 1) := dk_42 (dk_at dksX7_box_4 0 rfl rfl)
theorem dX7_box_95 : decode cX7_box 95 = .ok (.getfield 7, 3) := dk_180 0 7 (dk_at dksX7_box_4 1 rfl rfl)
theorem dX7_box_98 : decode cX7_box 98 = .ok (.iconst 4, 1) := dk_7 (dk_at dksX7_box_4 4 rfl rfl)
theorem dX7_box_99 : decode cX7_box 99 = .ok (.dup2, 1) := dk_92 (dk_at dksX7_box_4 5 rfl rfl)
theorem dX7_box_100 : decode cX7_box 100 = .ok (.iaload, 1) := dk_46 (dk_at dksX7_box_4 6 rfl rfl)
theorem dX7_box_101 : decode cX7_box 101 = .ok (.iconst 1, 1) := dk_4 (dk_at dksX7_box_4 7 rfl rfl)
theorem dX7_box_102 : decode cX7_box 102 = .ok (.iadd, 1) := dk_96 (dk_at dksX7_box_4 8 rfl rfl)
theorem dX7_box_103 : decode cX7_box 103 = .ok (.iastore, 1) := dk_79 (dk_at dksX7_box_4 9 rfl rfl)
theorem dX7_box_104 : decode cX7_box 104 = .ok (.aload_n 0, 1) := dk_42 (dk_at dksX7_box_4 10 rfl rfl)
theorem dX7_box_105 : decode cX7_box 105 = .ok (.aload_n 0, 1) := dk_42 (dk_at dksX7_box_4 11 rfl rfl)
theorem dX7_box_106 : decode cX7_box 106 = .ok (.getfield 7, 3) := dk_180 0 7 (dk_at dksX7_box_4 12 rfl rfl)
theorem dX7_box_109 : decode cX7_box 109 = .ok (.iconst 4, 1) := dk_7 (dk_at dksX7_box_4 15 rfl rfl)
theorem dX7_box_110 : decode cX7_box 110 = .ok (.iaload, 1) := dk_46 (dk_at dksX7_box_4 16 rfl rfl)
theorem dX7_box_111 : decode cX7_box 111 = .ok (.iconst 1, 1) := dk_4 (dk_at dksX7_box_4 17 rfl rfl)
theorem dX7_box_112 : decode cX7_box 112 = .ok (.isub, 1) := dk_100 (dk_at dksX7_box_4 18 rfl rfl)
theorem dX7_box_113 : decode cX7_box 113 = .ok (.invokevirtual 125, 3) := dk_182 0 125 (dk_at dksX7_box_4 19 rfl rfl)
theorem dX7_box_116 : decode cX7_box 116 = .ok (.ireturn, 1) := dk_172 (dk_at dksX7_box_4 22 rfl rfl)
def dkwX7_isBooth_0 : List UInt8 := [27, 133, 9, 42, 180, 0, 7, 6, 46, 133, 10, 101, 184, 0, 121, 172]
abbrev dktX7_isBooth_0 : List UInt8 := dkwX7_isBooth_0 ++ []
theorem dksX7_isBooth_0 : cX7_isBooth.data.toList.drop 0 = dktX7_isBooth_0 := by decide +kernel
theorem dX7_isBooth_0 : decode cX7_isBooth 0 = .ok (.iload_n 1, 1) := dk_27 (dk_at dksX7_isBooth_0 0 rfl rfl)
theorem dX7_isBooth_1 : decode cX7_isBooth 1 = .ok (.i2l, 1) := dk_133 (dk_at dksX7_isBooth_0 1 rfl rfl)
theorem dX7_isBooth_2 : decode cX7_isBooth 2 = .ok (.lconst 0, 1) := dk_9 (dk_at dksX7_isBooth_0 2 rfl rfl)
theorem dX7_isBooth_3 : decode cX7_isBooth 3 = .ok (.aload_n 0, 1) := dk_42 (dk_at dksX7_isBooth_0 3 rfl rfl)
theorem dX7_isBooth_4 : decode cX7_isBooth 4 = .ok (.getfield 7, 3) := dk_180 0 7 (dk_at dksX7_isBooth_0 4 rfl rfl)
theorem dX7_isBooth_7 : decode cX7_isBooth 7 = .ok (.iconst 3, 1) := dk_6 (dk_at dksX7_isBooth_0 7 rfl rfl)
theorem dX7_isBooth_8 : decode cX7_isBooth 8 = .ok (.iaload, 1) := dk_46 (dk_at dksX7_isBooth_0 8 rfl rfl)
theorem dX7_isBooth_9 : decode cX7_isBooth 9 = .ok (.i2l, 1) := dk_133 (dk_at dksX7_isBooth_0 9 rfl rfl)
theorem dX7_isBooth_10 : decode cX7_isBooth 10 = .ok (.lconst 1, 1) := dk_10 (dk_at dksX7_isBooth_0 10 rfl rfl)
theorem dX7_isBooth_11 : decode cX7_isBooth 11 = .ok (.lsub, 1) := dk_101 (dk_at dksX7_isBooth_0 11 rfl rfl)
theorem dX7_isBooth_12 : decode cX7_isBooth 12 = .ok (.invokestatic 121, 3) := dk_184 0 121 (dk_at dksX7_isBooth_0 12 rfl rfl)
theorem dX7_isBooth_15 : decode cX7_isBooth 15 = .ok (.ireturn, 1) := dk_172 (dk_at dksX7_isBooth_0 15 rfl rfl)
def dkwX7_hand_5 : List UInt8 := [21, 5, 79, 42, 180, 0, 7, 8, 92, 46, 4, 96, 79, 42, 42, 180, 0, 7, 8, 46, 182, 0, 125, 172]
abbrev dktX7_hand_5 : List UInt8 := dkwX7_hand_5 ++ []
def dkwX7_hand_4 : List UInt8 := [104, 96, 54, 6, 42, 21, 6, 27, 28, 29, 21, 4, 182, 0, 151, 42, 180, 0, 7, 21, 6, 7, 96]
abbrev dktX7_hand_4 : List UInt8 := dkwX7_hand_4 ++ dktX7_hand_5
def dkwX7_hand_3 : List UInt8 := [46, 17, 0, 200, 160, 0, 10, 42, 16, 251, 182, 0, 125, 172, 17, 9, 224, 8, 42, 180, 0, 7, 8, 46]
abbrev dktX7_hand_3 : List UInt8 := dkwX7_hand_3 ++ dktX7_hand_4
def dkwX7_hand_2 : List UInt8 := [182, 0, 125, 172, 42, 27, 182, 1, 251, 154, 0, 10, 42, 16, 254, 182, 0, 125, 172, 42, 180, 0, 7, 8]
abbrev dktX7_hand_2 : List UInt8 := dkwX7_hand_2 ++ dktX7_hand_3
def dkwX7_hand_1 : List UInt8 := [21, 4, 133, 9, 20, 1, 246, 184, 0, 121, 153, 0, 11, 21, 5, 184, 0, 159, 154, 0, 9, 42, 2]
abbrev dktX7_hand_1 : List UInt8 := dkwX7_hand_1 ++ dktX7_hand_2
def dkwX7_hand_0 : List UInt8 := [42, 3, 181, 0, 113, 28, 133, 9, 20, 1, 144, 184, 0, 121, 153, 0, 31, 29, 184, 0, 159, 153, 0, 24]
abbrev dktX7_hand_0 : List UInt8 := dkwX7_hand_0 ++ dktX7_hand_1
theorem dksX7_hand_0 : cX7_hand.data.toList.drop 0 = dktX7_hand_0 := by decide +kernel
theorem dksX7_hand_1 : cX7_hand.data.toList.drop 24 = dktX7_hand_1 := dk_seg dksX7_hand_0 24 rfl rfl
theorem dksX7_hand_2 : cX7_hand.data.toList.drop 47 = dktX7_hand_2 := dk_seg dksX7_hand_1 23 rfl rfl
theorem dksX7_hand_3 : cX7_hand.data.toList.drop 71 = dktX7_hand_3 := dk_seg dksX7_hand_2 24 rfl rfl
theorem dksX7_hand_4 : cX7_hand.data.toList.drop 95 = dktX7_hand_4 := dk_seg dksX7_hand_3 24 rfl rfl
theorem dksX7_hand_5 : cX7_hand.data.toList.drop 118 = dktX7_hand_5 := dk_seg dksX7_hand_4 23 rfl rfl
theorem dX7_hand_0 : decode cX7_hand 0 = .ok (.aload_n 0, 1) := dk_42 (dk_at dksX7_hand_0 0 rfl rfl)
theorem dX7_hand_1 : decode cX7_hand 1 = .ok (.iconst 0, 1) := dk_3 (dk_at dksX7_hand_0 1 rfl rfl)
theorem dX7_hand_2 : decode cX7_hand 2 = .ok (.putfield 113, 3) := dk_181 0 113 (dk_at dksX7_hand_0 2 rfl rfl)
theorem dX7_hand_5 : decode cX7_hand 5 = .ok (.iload_n 2, 1) := dk_28 (dk_at dksX7_hand_0 5 rfl rfl)
theorem dX7_hand_6 : decode cX7_hand 6 = .ok (.i2l, 1) := dk_133 (dk_at dksX7_hand_0 6 rfl rfl)
theorem dX7_hand_7 : decode cX7_hand 7 = .ok (.lconst 0, 1) := dk_9 (dk_at dksX7_hand_0 7 rfl rfl)
theorem dX7_hand_8 : decode cX7_hand 8 = .ok (.ldc2_w 400, 3) := dk_20 1 144 (dk_at dksX7_hand_0 8 rfl rfl)
theorem dX7_hand_11 : decode cX7_hand 11 = .ok (.invokestatic 121, 3) := dk_184 0 121 (dk_at dksX7_hand_0 11 rfl rfl)
theorem dX7_hand_14 : decode cX7_hand 14 = .ok (.ifCond .eq 31, 3) := dk_153 0 31 (dk_at dksX7_hand_0 14 rfl rfl)
theorem dX7_hand_17 : decode cX7_hand 17 = .ok (.iload_n 3, 1) := dk_29 (dk_at dksX7_hand_0 17 rfl rfl)
theorem dX7_hand_18 : decode cX7_hand 18 = .ok (.invokestatic 159, 3) := dk_184 0 159 (dk_at dksX7_hand_0 18 rfl rfl)
theorem dX7_hand_21 : decode cX7_hand 21 = .ok (.ifCond .eq 24, 3) := dk_153 0 24 (dk_at dksX7_hand_0 21 rfl rfl)
theorem dX7_hand_24 : decode cX7_hand 24 = .ok (.iload 4, 2) := dk_21 4 (dk_at dksX7_hand_1 0 rfl rfl)
theorem dX7_hand_26 : decode cX7_hand 26 = .ok (.i2l, 1) := dk_133 (dk_at dksX7_hand_1 2 rfl rfl)
theorem dX7_hand_27 : decode cX7_hand 27 = .ok (.lconst 0, 1) := dk_9 (dk_at dksX7_hand_1 3 rfl rfl)
theorem dX7_hand_28 : decode cX7_hand 28 = .ok (.ldc2_w 502, 3) := dk_20 1 246 (dk_at dksX7_hand_1 4 rfl rfl)
theorem dX7_hand_31 : decode cX7_hand 31 = .ok (.invokestatic 121, 3) := dk_184 0 121 (dk_at dksX7_hand_1 7 rfl rfl)
theorem dX7_hand_34 : decode cX7_hand 34 = .ok (.ifCond .eq 11, 3) := dk_153 0 11 (dk_at dksX7_hand_1 10 rfl rfl)
theorem dX7_hand_37 : decode cX7_hand 37 = .ok (.iload 5, 2) := dk_21 5 (dk_at dksX7_hand_1 13 rfl rfl)
theorem dX7_hand_39 : decode cX7_hand 39 = .ok (.invokestatic 159, 3) := dk_184 0 159 (dk_at dksX7_hand_1 15 rfl rfl)
theorem dX7_hand_42 : decode cX7_hand 42 = .ok (.ifCond .ne 9, 3) := dk_154 0 9 (dk_at dksX7_hand_1 18 rfl rfl)
theorem dX7_hand_45 : decode cX7_hand 45 = .ok (.aload_n 0, 1) := dk_42 (dk_at dksX7_hand_1 21 rfl rfl)
theorem dX7_hand_46 : decode cX7_hand 46 = .ok (.iconst (-1), 1) := dk_2 (dk_at dksX7_hand_1 22 rfl rfl)
theorem dX7_hand_47 : decode cX7_hand 47 = .ok (.invokevirtual 125, 3) := dk_182 0 125 (dk_at dksX7_hand_2 0 rfl rfl)
theorem dX7_hand_50 : decode cX7_hand 50 = .ok (.ireturn, 1) := dk_172 (dk_at dksX7_hand_2 3 rfl rfl)
theorem dX7_hand_51 : decode cX7_hand 51 = .ok (.aload_n 0, 1) := dk_42 (dk_at dksX7_hand_2 4 rfl rfl)
theorem dX7_hand_52 : decode cX7_hand 52 = .ok (.iload_n 1, 1) := dk_27 (dk_at dksX7_hand_2 5 rfl rfl)
theorem dX7_hand_53 : decode cX7_hand 53 = .ok (.invokevirtual 507, 3) := dk_182 1 251 (dk_at dksX7_hand_2 6 rfl rfl)
theorem dX7_hand_56 : decode cX7_hand 56 = .ok (.ifCond .ne 10, 3) := dk_154 0 10 (dk_at dksX7_hand_2 9 rfl rfl)
theorem dX7_hand_59 : decode cX7_hand 59 = .ok (.aload_n 0, 1) := dk_42 (dk_at dksX7_hand_2 12 rfl rfl)
theorem dX7_hand_60 : decode cX7_hand 60 = .ok (.bipush (-2), 2) := dk_16 254 (dk_at dksX7_hand_2 13 rfl rfl)
theorem dX7_hand_62 : decode cX7_hand 62 = .ok (.invokevirtual 125, 3) := dk_182 0 125 (dk_at dksX7_hand_2 15 rfl rfl)
theorem dX7_hand_65 : decode cX7_hand 65 = .ok (.ireturn, 1) := dk_172 (dk_at dksX7_hand_2 18 rfl rfl)
theorem dX7_hand_66 : decode cX7_hand 66 = .ok (.aload_n 0, 1) := dk_42 (dk_at dksX7_hand_2 19 rfl rfl)
theorem dX7_hand_67 : decode cX7_hand 67 = .ok (.getfield 7, 3) := dk_180 0 7 (dk_at dksX7_hand_2 20 rfl rfl)
theorem dX7_hand_70 : decode cX7_hand 70 = .ok (.iconst 5, 1) := dk_8 (dk_at dksX7_hand_2 23 rfl rfl)
theorem dX7_hand_71 : decode cX7_hand 71 = .ok (.iaload, 1) := dk_46 (dk_at dksX7_hand_3 0 rfl rfl)
theorem dX7_hand_72 : decode cX7_hand 72 = .ok (.sipush 200, 3) := dk_17 0 200 (dk_at dksX7_hand_3 1 rfl rfl)
theorem dX7_hand_75 : decode cX7_hand 75 = .ok (.if_icmp .ne 10, 3) := dk_160 0 10 (dk_at dksX7_hand_3 4 rfl rfl)
theorem dX7_hand_78 : decode cX7_hand 78 = .ok (.aload_n 0, 1) := dk_42 (dk_at dksX7_hand_3 7 rfl rfl)
theorem dX7_hand_79 : decode cX7_hand 79 = .ok (.bipush (-5), 2) := dk_16 251 (dk_at dksX7_hand_3 8 rfl rfl)
theorem dX7_hand_81 : decode cX7_hand 81 = .ok (.invokevirtual 125, 3) := dk_182 0 125 (dk_at dksX7_hand_3 10 rfl rfl)
theorem dX7_hand_84 : decode cX7_hand 84 = .ok (.ireturn, 1) := dk_172 (dk_at dksX7_hand_3 13 rfl rfl)
theorem dX7_hand_85 : decode cX7_hand 85 = .ok (.sipush 2528, 3) := dk_17 9 224 (dk_at dksX7_hand_3 14 rfl rfl)
theorem dX7_hand_88 : decode cX7_hand 88 = .ok (.iconst 5, 1) := dk_8 (dk_at dksX7_hand_3 17 rfl rfl)
theorem dX7_hand_89 : decode cX7_hand 89 = .ok (.aload_n 0, 1) := dk_42 (dk_at dksX7_hand_3 18 rfl rfl)
theorem dX7_hand_90 : decode cX7_hand 90 = .ok (.getfield 7, 3) := dk_180 0 7 (dk_at dksX7_hand_3 19 rfl rfl)
theorem dX7_hand_93 : decode cX7_hand 93 = .ok (.iconst 5, 1) := dk_8 (dk_at dksX7_hand_3 22 rfl rfl)
theorem dX7_hand_94 : decode cX7_hand 94 = .ok (.iaload, 1) := dk_46 (dk_at dksX7_hand_3 23 rfl rfl)
theorem dX7_hand_95 : decode cX7_hand 95 = .ok (.imul, 1) := dk_104 (dk_at dksX7_hand_4 0 rfl rfl)
theorem dX7_hand_96 : decode cX7_hand 96 = .ok (.iadd, 1) := dk_96 (dk_at dksX7_hand_4 1 rfl rfl)
theorem dX7_hand_97 : decode cX7_hand 97 = .ok (.istore 6, 2) := dk_54 6 (dk_at dksX7_hand_4 2 rfl rfl)
theorem dX7_hand_99 : decode cX7_hand 99 = .ok (.aload_n 0, 1) := dk_42 (dk_at dksX7_hand_4 4 rfl rfl)
theorem dX7_hand_100 : decode cX7_hand 100 = .ok (.iload 6, 2) := dk_21 6 (dk_at dksX7_hand_4 5 rfl rfl)
theorem dX7_hand_102 : decode cX7_hand 102 = .ok (.iload_n 1, 1) := dk_27 (dk_at dksX7_hand_4 7 rfl rfl)
theorem dX7_hand_103 : decode cX7_hand 103 = .ok (.iload_n 2, 1) := dk_28 (dk_at dksX7_hand_4 8 rfl rfl)
theorem dX7_hand_104 : decode cX7_hand 104 = .ok (.iload_n 3, 1) := dk_29 (dk_at dksX7_hand_4 9 rfl rfl)
theorem dX7_hand_105 : decode cX7_hand 105 = .ok (.iload 4, 2) := dk_21 4 (dk_at dksX7_hand_4 10 rfl rfl)
theorem dX7_hand_107 : decode cX7_hand 107 = .ok (.invokevirtual 151, 3) := dk_182 0 151 (dk_at dksX7_hand_4 12 rfl rfl)
theorem dX7_hand_110 : decode cX7_hand 110 = .ok (.aload_n 0, 1) := dk_42 (dk_at dksX7_hand_4 15 rfl rfl)
theorem dX7_hand_111 : decode cX7_hand 111 = .ok (.getfield 7, 3) := dk_180 0 7 (dk_at dksX7_hand_4 16 rfl rfl)
theorem dX7_hand_114 : decode cX7_hand 114 = .ok (.iload 6, 2) := dk_21 6 (dk_at dksX7_hand_4 19 rfl rfl)
theorem dX7_hand_116 : decode cX7_hand 116 = .ok (.iconst 4, 1) := dk_7 (dk_at dksX7_hand_4 21 rfl rfl)
theorem dX7_hand_117 : decode cX7_hand 117 = .ok (.iadd, 1) := dk_96 (dk_at dksX7_hand_4 22 rfl rfl)
theorem dX7_hand_118 : decode cX7_hand 118 = .ok (.iload 5, 2) := dk_21 5 (dk_at dksX7_hand_5 0 rfl rfl)
theorem dX7_hand_120 : decode cX7_hand 120 = .ok (.iastore, 1) := dk_79 (dk_at dksX7_hand_5 2 rfl rfl)
theorem dX7_hand_121 : decode cX7_hand 121 = .ok (.aload_n 0, 1) := dk_42 (dk_at dksX7_hand_5 3 rfl rfl)
theorem dX7_hand_122 : decode cX7_hand 122 = .ok (.getfield 7, 3) := dk_180 0 7 (dk_at dksX7_hand_5 4 rfl rfl)
theorem dX7_hand_125 : decode cX7_hand 125 = .ok (.iconst 5, 1) := dk_8 (dk_at dksX7_hand_5 7 rfl rfl)
theorem dX7_hand_126 : decode cX7_hand 126 = .ok (.dup2, 1) := dk_92 (dk_at dksX7_hand_5 8 rfl rfl)
theorem dX7_hand_127 : decode cX7_hand 127 = .ok (.iaload, 1) := dk_46 (dk_at dksX7_hand_5 9 rfl rfl)
theorem dX7_hand_128 : decode cX7_hand 128 = .ok (.iconst 1, 1) := dk_4 (dk_at dksX7_hand_5 10 rfl rfl)
theorem dX7_hand_129 : decode cX7_hand 129 = .ok (.iadd, 1) := dk_96 (dk_at dksX7_hand_5 11 rfl rfl)
theorem dX7_hand_130 : decode cX7_hand 130 = .ok (.iastore, 1) := dk_79 (dk_at dksX7_hand_5 12 rfl rfl)
theorem dX7_hand_131 : decode cX7_hand 131 = .ok (.aload_n 0, 1) := dk_42 (dk_at dksX7_hand_5 13 rfl rfl)
theorem dX7_hand_132 : decode cX7_hand 132 = .ok (.aload_n 0, 1) := dk_42 (dk_at dksX7_hand_5 14 rfl rfl)
theorem dX7_hand_133 : decode cX7_hand 133 = .ok (.getfield 7, 3) := dk_180 0 7 (dk_at dksX7_hand_5 15 rfl rfl)
theorem dX7_hand_136 : decode cX7_hand 136 = .ok (.iconst 5, 1) := dk_8 (dk_at dksX7_hand_5 18 rfl rfl)
theorem dX7_hand_137 : decode cX7_hand 137 = .ok (.iaload, 1) := dk_46 (dk_at dksX7_hand_5 19 rfl rfl)
theorem dX7_hand_138 : decode cX7_hand 138 = .ok (.invokevirtual 125, 3) := dk_182 0 125 (dk_at dksX7_hand_5 20 rfl rfl)
theorem dX7_hand_141 : decode cX7_hand 141 = .ok (.ireturn, 1) := dk_172 (dk_at dksX7_hand_5 23 rfl rfl)
def dkwX7_isBox_0 : List UInt8 := [27, 133, 9, 42, 180, 0, 7, 7, 46, 133, 10, 101, 184, 0, 121, 172]
abbrev dktX7_isBox_0 : List UInt8 := dkwX7_isBox_0 ++ []
theorem dksX7_isBox_0 : cX7_isBox.data.toList.drop 0 = dktX7_isBox_0 := by decide +kernel
theorem dX7_isBox_0 : decode cX7_isBox 0 = .ok (.iload_n 1, 1) := dk_27 (dk_at dksX7_isBox_0 0 rfl rfl)
theorem dX7_isBox_1 : decode cX7_isBox 1 = .ok (.i2l, 1) := dk_133 (dk_at dksX7_isBox_0 1 rfl rfl)
theorem dX7_isBox_2 : decode cX7_isBox 2 = .ok (.lconst 0, 1) := dk_9 (dk_at dksX7_isBox_0 2 rfl rfl)
theorem dX7_isBox_3 : decode cX7_isBox 3 = .ok (.aload_n 0, 1) := dk_42 (dk_at dksX7_isBox_0 3 rfl rfl)
theorem dX7_isBox_4 : decode cX7_isBox 4 = .ok (.getfield 7, 3) := dk_180 0 7 (dk_at dksX7_isBox_0 4 rfl rfl)
theorem dX7_isBox_7 : decode cX7_isBox 7 = .ok (.iconst 4, 1) := dk_7 (dk_at dksX7_isBox_0 7 rfl rfl)
theorem dX7_isBox_8 : decode cX7_isBox 8 = .ok (.iaload, 1) := dk_46 (dk_at dksX7_isBox_0 8 rfl rfl)
theorem dX7_isBox_9 : decode cX7_isBox 9 = .ok (.i2l, 1) := dk_133 (dk_at dksX7_isBox_0 9 rfl rfl)
theorem dX7_isBox_10 : decode cX7_isBox 10 = .ok (.lconst 1, 1) := dk_10 (dk_at dksX7_isBox_0 10 rfl rfl)
theorem dX7_isBox_11 : decode cX7_isBox 11 = .ok (.lsub, 1) := dk_101 (dk_at dksX7_isBox_0 11 rfl rfl)
theorem dX7_isBox_12 : decode cX7_isBox 12 = .ok (.invokestatic 121, 3) := dk_184 0 121 (dk_at dksX7_isBox_0 12 rfl rfl)
theorem dX7_isBox_15 : decode cX7_isBox 15 = .ok (.ireturn, 1) := dk_172 (dk_at dksX7_isBox_0 15 rfl rfl)
def dkwX7_held_5 : List UInt8 := [96, 46, 54, 5, 42, 180, 0, 7, 21, 7, 4, 96, 46, 54, 4, 132, 6, 1, 167, 255, 159, 21, 4, 172]
abbrev dktX7_held_5 : List UInt8 := dkwX7_held_5 ++ []
def dkwX7_held_4 : List UInt8 := [163, 0, 39, 42, 180, 0, 7, 21, 7, 5, 96, 46, 21, 5, 161, 0, 25, 42, 180, 0, 7, 21, 7, 5]
abbrev dktX7_held_4 : List UInt8 := dkwX7_held_4 ++ dktX7_held_5
def dkwX7_held_3 : List UInt8 := [42, 180, 0, 7, 21, 7, 7, 96, 46, 29, 163, 0, 52, 42, 180, 0, 7, 21, 7, 5, 96, 46, 28]
abbrev dktX7_held_3 : List UInt8 := dkwX7_held_3 ++ dktX7_held_4
def dkwX7_held_2 : List UInt8 := [162, 0, 92, 17, 9, 224, 8, 21, 6, 104, 96, 54, 7, 42, 180, 0, 7, 21, 7, 46, 27, 160, 0, 65]
abbrev dktX7_held_2 : List UInt8 := dkwX7_held_2 ++ dktX7_held_3
def dkwX7_held_1 : List UInt8 := [154, 0, 5, 2, 172, 2, 54, 4, 2, 54, 5, 3, 54, 6, 21, 6, 42, 180, 0, 7, 8, 46]
abbrev dktX7_held_1 : List UInt8 := dkwX7_held_1 ++ dktX7_held_2
def dkwX7_held_0 : List UInt8 := [42, 3, 181, 0, 113, 42, 27, 182, 1, 251, 153, 0, 17, 28, 184, 0, 159, 153, 0, 10, 29, 184, 0, 159]
abbrev dktX7_held_0 : List UInt8 := dkwX7_held_0 ++ dktX7_held_1
theorem dksX7_held_0 : cX7_held.data.toList.drop 0 = dktX7_held_0 := by decide +kernel
theorem dksX7_held_1 : cX7_held.data.toList.drop 24 = dktX7_held_1 := dk_seg dksX7_held_0 24 rfl rfl
theorem dksX7_held_2 : cX7_held.data.toList.drop 46 = dktX7_held_2 := dk_seg dksX7_held_1 22 rfl rfl
theorem dksX7_held_3 : cX7_held.data.toList.drop 70 = dktX7_held_3 := dk_seg dksX7_held_2 24 rfl rfl
theorem dksX7_held_4 : cX7_held.data.toList.drop 93 = dktX7_held_4 := dk_seg dksX7_held_3 23 rfl rfl
theorem dksX7_held_5 : cX7_held.data.toList.drop 117 = dktX7_held_5 := dk_seg dksX7_held_4 24 rfl rfl
theorem dX7_held_0 : decode cX7_held 0 = .ok (.aload_n 0, 1) := dk_42 (dk_at dksX7_held_0 0 rfl rfl)
theorem dX7_held_1 : decode cX7_held 1 = .ok (.iconst 0, 1) := dk_3 (dk_at dksX7_held_0 1 rfl rfl)
theorem dX7_held_2 : decode cX7_held 2 = .ok (.putfield 113, 3) := dk_181 0 113 (dk_at dksX7_held_0 2 rfl rfl)
theorem dX7_held_5 : decode cX7_held 5 = .ok (.aload_n 0, 1) := dk_42 (dk_at dksX7_held_0 5 rfl rfl)
theorem dX7_held_6 : decode cX7_held 6 = .ok (.iload_n 1, 1) := dk_27 (dk_at dksX7_held_0 6 rfl rfl)
theorem dX7_held_7 : decode cX7_held 7 = .ok (.invokevirtual 507, 3) := dk_182 1 251 (dk_at dksX7_held_0 7 rfl rfl)
theorem dX7_held_10 : decode cX7_held 10 = .ok (.ifCond .eq 17, 3) := dk_153 0 17 (dk_at dksX7_held_0 10 rfl rfl)
theorem dX7_held_13 : decode cX7_held 13 = .ok (.iload_n 2, 1) := dk_28 (dk_at dksX7_held_0 13 rfl rfl)
theorem dX7_held_14 : decode cX7_held 14 = .ok (.invokestatic 159, 3) := dk_184 0 159 (dk_at dksX7_held_0 14 rfl rfl)
theorem dX7_held_17 : decode cX7_held 17 = .ok (.ifCond .eq 10, 3) := dk_153 0 10 (dk_at dksX7_held_0 17 rfl rfl)
theorem dX7_held_20 : decode cX7_held 20 = .ok (.iload_n 3, 1) := dk_29 (dk_at dksX7_held_0 20 rfl rfl)
theorem dX7_held_21 : decode cX7_held 21 = .ok (.invokestatic 159, 3) := dk_184 0 159 (dk_at dksX7_held_0 21 rfl rfl)
theorem dX7_held_24 : decode cX7_held 24 = .ok (.ifCond .ne 5, 3) := dk_154 0 5 (dk_at dksX7_held_1 0 rfl rfl)
theorem dX7_held_27 : decode cX7_held 27 = .ok (.iconst (-1), 1) := dk_2 (dk_at dksX7_held_1 3 rfl rfl)
theorem dX7_held_28 : decode cX7_held 28 = .ok (.ireturn, 1) := dk_172 (dk_at dksX7_held_1 4 rfl rfl)
theorem dX7_held_29 : decode cX7_held 29 = .ok (.iconst (-1), 1) := dk_2 (dk_at dksX7_held_1 5 rfl rfl)
theorem dX7_held_30 : decode cX7_held 30 = .ok (.istore 4, 2) := dk_54 4 (dk_at dksX7_held_1 6 rfl rfl)
theorem dX7_held_32 : decode cX7_held 32 = .ok (.iconst (-1), 1) := dk_2 (dk_at dksX7_held_1 8 rfl rfl)
theorem dX7_held_33 : decode cX7_held 33 = .ok (.istore 5, 2) := dk_54 5 (dk_at dksX7_held_1 9 rfl rfl)
theorem dX7_held_35 : decode cX7_held 35 = .ok (.iconst 0, 1) := dk_3 (dk_at dksX7_held_1 11 rfl rfl)
theorem dX7_held_36 : decode cX7_held 36 = .ok (.istore 6, 2) := dk_54 6 (dk_at dksX7_held_1 12 rfl rfl)
theorem dX7_held_38 : decode cX7_held 38 = .ok (.iload 6, 2) := dk_21 6 (dk_at dksX7_held_1 14 rfl rfl)
theorem dX7_held_40 : decode cX7_held 40 = .ok (.aload_n 0, 1) := dk_42 (dk_at dksX7_held_1 16 rfl rfl)
theorem dX7_held_41 : decode cX7_held 41 = .ok (.getfield 7, 3) := dk_180 0 7 (dk_at dksX7_held_1 17 rfl rfl)
theorem dX7_held_44 : decode cX7_held 44 = .ok (.iconst 5, 1) := dk_8 (dk_at dksX7_held_1 20 rfl rfl)
theorem dX7_held_45 : decode cX7_held 45 = .ok (.iaload, 1) := dk_46 (dk_at dksX7_held_1 21 rfl rfl)
theorem dX7_held_46 : decode cX7_held 46 = .ok (.if_icmp .ge 92, 3) := dk_162 0 92 (dk_at dksX7_held_2 0 rfl rfl)
theorem dX7_held_49 : decode cX7_held 49 = .ok (.sipush 2528, 3) := dk_17 9 224 (dk_at dksX7_held_2 3 rfl rfl)
theorem dX7_held_52 : decode cX7_held 52 = .ok (.iconst 5, 1) := dk_8 (dk_at dksX7_held_2 6 rfl rfl)
theorem dX7_held_53 : decode cX7_held 53 = .ok (.iload 6, 2) := dk_21 6 (dk_at dksX7_held_2 7 rfl rfl)
theorem dX7_held_55 : decode cX7_held 55 = .ok (.imul, 1) := dk_104 (dk_at dksX7_held_2 9 rfl rfl)
theorem dX7_held_56 : decode cX7_held 56 = .ok (.iadd, 1) := dk_96 (dk_at dksX7_held_2 10 rfl rfl)
theorem dX7_held_57 : decode cX7_held 57 = .ok (.istore 7, 2) := dk_54 7 (dk_at dksX7_held_2 11 rfl rfl)
theorem dX7_held_59 : decode cX7_held 59 = .ok (.aload_n 0, 1) := dk_42 (dk_at dksX7_held_2 13 rfl rfl)
theorem dX7_held_60 : decode cX7_held 60 = .ok (.getfield 7, 3) := dk_180 0 7 (dk_at dksX7_held_2 14 rfl rfl)
theorem dX7_held_63 : decode cX7_held 63 = .ok (.iload 7, 2) := dk_21 7 (dk_at dksX7_held_2 17 rfl rfl)
theorem dX7_held_65 : decode cX7_held 65 = .ok (.iaload, 1) := dk_46 (dk_at dksX7_held_2 19 rfl rfl)
theorem dX7_held_66 : decode cX7_held 66 = .ok (.iload_n 1, 1) := dk_27 (dk_at dksX7_held_2 20 rfl rfl)
theorem dX7_held_67 : decode cX7_held 67 = .ok (.if_icmp .ne 65, 3) := dk_160 0 65 (dk_at dksX7_held_2 21 rfl rfl)
theorem dX7_held_70 : decode cX7_held 70 = .ok (.aload_n 0, 1) := dk_42 (dk_at dksX7_held_3 0 rfl rfl)
theorem dX7_held_71 : decode cX7_held 71 = .ok (.getfield 7, 3) := dk_180 0 7 (dk_at dksX7_held_3 1 rfl rfl)
theorem dX7_held_74 : decode cX7_held 74 = .ok (.iload 7, 2) := dk_21 7 (dk_at dksX7_held_3 4 rfl rfl)
theorem dX7_held_76 : decode cX7_held 76 = .ok (.iconst 4, 1) := dk_7 (dk_at dksX7_held_3 6 rfl rfl)
theorem dX7_held_77 : decode cX7_held 77 = .ok (.iadd, 1) := dk_96 (dk_at dksX7_held_3 7 rfl rfl)
theorem dX7_held_78 : decode cX7_held 78 = .ok (.iaload, 1) := dk_46 (dk_at dksX7_held_3 8 rfl rfl)
theorem dX7_held_79 : decode cX7_held 79 = .ok (.iload_n 3, 1) := dk_29 (dk_at dksX7_held_3 9 rfl rfl)
theorem dX7_held_80 : decode cX7_held 80 = .ok (.if_icmp .gt 52, 3) := dk_163 0 52 (dk_at dksX7_held_3 10 rfl rfl)
theorem dX7_held_83 : decode cX7_held 83 = .ok (.aload_n 0, 1) := dk_42 (dk_at dksX7_held_3 13 rfl rfl)
theorem dX7_held_84 : decode cX7_held 84 = .ok (.getfield 7, 3) := dk_180 0 7 (dk_at dksX7_held_3 14 rfl rfl)
theorem dX7_held_87 : decode cX7_held 87 = .ok (.iload 7, 2) := dk_21 7 (dk_at dksX7_held_3 17 rfl rfl)
theorem dX7_held_89 : decode cX7_held 89 = .ok (.iconst 2, 1) := dk_5 (dk_at dksX7_held_3 19 rfl rfl)
theorem dX7_held_90 : decode cX7_held 90 = .ok (.iadd, 1) := dk_96 (dk_at dksX7_held_3 20 rfl rfl)
theorem dX7_held_91 : decode cX7_held 91 = .ok (.iaload, 1) := dk_46 (dk_at dksX7_held_3 21 rfl rfl)
theorem dX7_held_92 : decode cX7_held 92 = .ok (.iload_n 2, 1) := dk_28 (dk_at dksX7_held_3 22 rfl rfl)
theorem dX7_held_93 : decode cX7_held 93 = .ok (.if_icmp .gt 39, 3) := dk_163 0 39 (dk_at dksX7_held_4 0 rfl rfl)
theorem dX7_held_96 : decode cX7_held 96 = .ok (.aload_n 0, 1) := dk_42 (dk_at dksX7_held_4 3 rfl rfl)
theorem dX7_held_97 : decode cX7_held 97 = .ok (.getfield 7, 3) := dk_180 0 7 (dk_at dksX7_held_4 4 rfl rfl)
theorem dX7_held_100 : decode cX7_held 100 = .ok (.iload 7, 2) := dk_21 7 (dk_at dksX7_held_4 7 rfl rfl)
theorem dX7_held_102 : decode cX7_held 102 = .ok (.iconst 2, 1) := dk_5 (dk_at dksX7_held_4 9 rfl rfl)
theorem dX7_held_103 : decode cX7_held 103 = .ok (.iadd, 1) := dk_96 (dk_at dksX7_held_4 10 rfl rfl)
theorem dX7_held_104 : decode cX7_held 104 = .ok (.iaload, 1) := dk_46 (dk_at dksX7_held_4 11 rfl rfl)
theorem dX7_held_105 : decode cX7_held 105 = .ok (.iload 5, 2) := dk_21 5 (dk_at dksX7_held_4 12 rfl rfl)
theorem dX7_held_107 : decode cX7_held 107 = .ok (.if_icmp .lt 25, 3) := dk_161 0 25 (dk_at dksX7_held_4 14 rfl rfl)
theorem dX7_held_110 : decode cX7_held 110 = .ok (.aload_n 0, 1) := dk_42 (dk_at dksX7_held_4 17 rfl rfl)
theorem dX7_held_111 : decode cX7_held 111 = .ok (.getfield 7, 3) := dk_180 0 7 (dk_at dksX7_held_4 18 rfl rfl)
theorem dX7_held_114 : decode cX7_held 114 = .ok (.iload 7, 2) := dk_21 7 (dk_at dksX7_held_4 21 rfl rfl)
theorem dX7_held_116 : decode cX7_held 116 = .ok (.iconst 2, 1) := dk_5 (dk_at dksX7_held_4 23 rfl rfl)
theorem dX7_held_117 : decode cX7_held 117 = .ok (.iadd, 1) := dk_96 (dk_at dksX7_held_5 0 rfl rfl)
theorem dX7_held_118 : decode cX7_held 118 = .ok (.iaload, 1) := dk_46 (dk_at dksX7_held_5 1 rfl rfl)
theorem dX7_held_119 : decode cX7_held 119 = .ok (.istore 5, 2) := dk_54 5 (dk_at dksX7_held_5 2 rfl rfl)
theorem dX7_held_121 : decode cX7_held 121 = .ok (.aload_n 0, 1) := dk_42 (dk_at dksX7_held_5 4 rfl rfl)
theorem dX7_held_122 : decode cX7_held 122 = .ok (.getfield 7, 3) := dk_180 0 7 (dk_at dksX7_held_5 5 rfl rfl)
theorem dX7_held_125 : decode cX7_held 125 = .ok (.iload 7, 2) := dk_21 7 (dk_at dksX7_held_5 8 rfl rfl)
theorem dX7_held_127 : decode cX7_held 127 = .ok (.iconst 1, 1) := dk_4 (dk_at dksX7_held_5 10 rfl rfl)
theorem dX7_held_128 : decode cX7_held 128 = .ok (.iadd, 1) := dk_96 (dk_at dksX7_held_5 11 rfl rfl)
theorem dX7_held_129 : decode cX7_held 129 = .ok (.iaload, 1) := dk_46 (dk_at dksX7_held_5 12 rfl rfl)
theorem dX7_held_130 : decode cX7_held 130 = .ok (.istore 4, 2) := dk_54 4 (dk_at dksX7_held_5 13 rfl rfl)
theorem dX7_held_132 : decode cX7_held 132 = .ok (.iinc 6 1, 3) := dk_132 6 1 (dk_at dksX7_held_5 15 rfl rfl)
theorem dX7_held_135 : decode cX7_held 135 = .ok (.goto (-97), 3) := dk_167 255 159 (dk_at dksX7_held_5 18 rfl rfl)
theorem dX7_held_138 : decode cX7_held 138 = .ok (.iload 4, 2) := dk_21 4 (dk_at dksX7_held_5 21 rfl rfl)
theorem dX7_held_140 : decode cX7_held 140 = .ok (.ireturn, 1) := dk_172 (dk_at dksX7_held_5 23 rfl rfl)
def dkwX7_broken_4 : List UInt8 := [180, 0, 7, 17, 9, 224, 8, 21, 4, 104, 96, 29, 154, 0, 7, 4, 167, 0, 4, 5, 96, 46, 172]
abbrev dktX7_broken_4 : List UInt8 := dkwX7_broken_4 ++ []
def dkwX7_broken_3 : List UInt8 := [160, 0, 7, 2, 167, 0, 18, 42, 180, 0, 7, 17, 9, 224, 8, 21, 5, 104, 96, 4, 96, 46, 172, 42]
abbrev dktX7_broken_3 : List UInt8 := dkwX7_broken_3 ++ dktX7_broken_4
def dkwX7_broken_2 : List UInt8 := [160, 0, 5, 2, 172, 29, 4, 160, 0, 38, 42, 21, 4, 28, 182, 1, 254, 54, 5, 21, 5, 2]
abbrev dktX7_broken_2 : List UInt8 := dkwX7_broken_2 ++ dktX7_broken_3
def dkwX7_broken_1 : List UInt8 := [20, 0, 211, 184, 0, 121, 154, 0, 5, 2, 172, 42, 27, 28, 182, 1, 185, 54, 4, 21, 4, 2]
abbrev dktX7_broken_1 : List UInt8 := dkwX7_broken_1 ++ dktX7_broken_2
def dkwX7_broken_0 : List UInt8 := [42, 3, 181, 0, 113, 42, 27, 182, 1, 251, 153, 0, 22, 28, 184, 0, 159, 153, 0, 15, 29, 133, 9]
abbrev dktX7_broken_0 : List UInt8 := dkwX7_broken_0 ++ dktX7_broken_1
theorem dksX7_broken_0 : cX7_broken.data.toList.drop 0 = dktX7_broken_0 := by decide +kernel
theorem dksX7_broken_1 : cX7_broken.data.toList.drop 23 = dktX7_broken_1 := dk_seg dksX7_broken_0 23 rfl rfl
theorem dksX7_broken_2 : cX7_broken.data.toList.drop 45 = dktX7_broken_2 := dk_seg dksX7_broken_1 22 rfl rfl
theorem dksX7_broken_3 : cX7_broken.data.toList.drop 67 = dktX7_broken_3 := dk_seg dksX7_broken_2 22 rfl rfl
theorem dksX7_broken_4 : cX7_broken.data.toList.drop 91 = dktX7_broken_4 := dk_seg dksX7_broken_3 24 rfl rfl
theorem dX7_broken_0 : decode cX7_broken 0 = .ok (.aload_n 0, 1) := dk_42 (dk_at dksX7_broken_0 0 rfl rfl)
theorem dX7_broken_1 : decode cX7_broken 1 = .ok (.iconst 0, 1) := dk_3 (dk_at dksX7_broken_0 1 rfl rfl)
theorem dX7_broken_2 : decode cX7_broken 2 = .ok (.putfield 113, 3) := dk_181 0 113 (dk_at dksX7_broken_0 2 rfl rfl)
theorem dX7_broken_5 : decode cX7_broken 5 = .ok (.aload_n 0, 1) := dk_42 (dk_at dksX7_broken_0 5 rfl rfl)
theorem dX7_broken_6 : decode cX7_broken 6 = .ok (.iload_n 1, 1) := dk_27 (dk_at dksX7_broken_0 6 rfl rfl)
theorem dX7_broken_7 : decode cX7_broken 7 = .ok (.invokevirtual 507, 3) := dk_182 1 251 (dk_at dksX7_broken_0 7 rfl rfl)
theorem dX7_broken_10 : decode cX7_broken 10 = .ok (.ifCond .eq 22, 3) := dk_153 0 22 (dk_at dksX7_broken_0 10 rfl rfl)
theorem dX7_broken_13 : decode cX7_broken 13 = .ok (.iload_n 2, 1) := dk_28 (dk_at dksX7_broken_0 13 rfl rfl)
theorem dX7_broken_14 : decode cX7_broken 14 = .ok (.invokestatic 159, 3) := dk_184 0 159 (dk_at dksX7_broken_0 14 rfl rfl)
theorem dX7_broken_17 : decode cX7_broken 17 = .ok (.ifCond .eq 15, 3) := dk_153 0 15 (dk_at dksX7_broken_0 17 rfl rfl)
theorem dX7_broken_20 : decode cX7_broken 20 = .ok (.iload_n 3, 1) := dk_29 (dk_at dksX7_broken_0 20 rfl rfl)
theorem dX7_broken_21 : decode cX7_broken 21 = .ok (.i2l, 1) := dk_133 (dk_at dksX7_broken_0 21 rfl rfl)
theorem dX7_broken_22 : decode cX7_broken 22 = .ok (.lconst 0, 1) := dk_9 (dk_at dksX7_broken_0 22 rfl rfl)
theorem dX7_broken_23 : decode cX7_broken 23 = .ok (.ldc2_w 211, 3) := dk_20 0 211 (dk_at dksX7_broken_1 0 rfl rfl)
theorem dX7_broken_26 : decode cX7_broken 26 = .ok (.invokestatic 121, 3) := dk_184 0 121 (dk_at dksX7_broken_1 3 rfl rfl)
theorem dX7_broken_29 : decode cX7_broken 29 = .ok (.ifCond .ne 5, 3) := dk_154 0 5 (dk_at dksX7_broken_1 6 rfl rfl)
theorem dX7_broken_32 : decode cX7_broken 32 = .ok (.iconst (-1), 1) := dk_2 (dk_at dksX7_broken_1 9 rfl rfl)
theorem dX7_broken_33 : decode cX7_broken 33 = .ok (.ireturn, 1) := dk_172 (dk_at dksX7_broken_1 10 rfl rfl)
theorem dX7_broken_34 : decode cX7_broken 34 = .ok (.aload_n 0, 1) := dk_42 (dk_at dksX7_broken_1 11 rfl rfl)
theorem dX7_broken_35 : decode cX7_broken 35 = .ok (.iload_n 1, 1) := dk_27 (dk_at dksX7_broken_1 12 rfl rfl)
theorem dX7_broken_36 : decode cX7_broken 36 = .ok (.iload_n 2, 1) := dk_28 (dk_at dksX7_broken_1 13 rfl rfl)
theorem dX7_broken_37 : decode cX7_broken 37 = .ok (.invokevirtual 441, 3) := dk_182 1 185 (dk_at dksX7_broken_1 14 rfl rfl)
theorem dX7_broken_40 : decode cX7_broken 40 = .ok (.istore 4, 2) := dk_54 4 (dk_at dksX7_broken_1 17 rfl rfl)
theorem dX7_broken_42 : decode cX7_broken 42 = .ok (.iload 4, 2) := dk_21 4 (dk_at dksX7_broken_1 19 rfl rfl)
theorem dX7_broken_44 : decode cX7_broken 44 = .ok (.iconst (-1), 1) := dk_2 (dk_at dksX7_broken_1 21 rfl rfl)
theorem dX7_broken_45 : decode cX7_broken 45 = .ok (.if_icmp .ne 5, 3) := dk_160 0 5 (dk_at dksX7_broken_2 0 rfl rfl)
theorem dX7_broken_48 : decode cX7_broken 48 = .ok (.iconst (-1), 1) := dk_2 (dk_at dksX7_broken_2 3 rfl rfl)
theorem dX7_broken_49 : decode cX7_broken 49 = .ok (.ireturn, 1) := dk_172 (dk_at dksX7_broken_2 4 rfl rfl)
theorem dX7_broken_50 : decode cX7_broken 50 = .ok (.iload_n 3, 1) := dk_29 (dk_at dksX7_broken_2 5 rfl rfl)
theorem dX7_broken_51 : decode cX7_broken 51 = .ok (.iconst 1, 1) := dk_4 (dk_at dksX7_broken_2 6 rfl rfl)
theorem dX7_broken_52 : decode cX7_broken 52 = .ok (.if_icmp .ne 38, 3) := dk_160 0 38 (dk_at dksX7_broken_2 7 rfl rfl)
theorem dX7_broken_55 : decode cX7_broken 55 = .ok (.aload_n 0, 1) := dk_42 (dk_at dksX7_broken_2 10 rfl rfl)
theorem dX7_broken_56 : decode cX7_broken 56 = .ok (.iload 4, 2) := dk_21 4 (dk_at dksX7_broken_2 11 rfl rfl)
theorem dX7_broken_58 : decode cX7_broken 58 = .ok (.iload_n 2, 1) := dk_28 (dk_at dksX7_broken_2 13 rfl rfl)
theorem dX7_broken_59 : decode cX7_broken 59 = .ok (.invokevirtual 510, 3) := dk_182 1 254 (dk_at dksX7_broken_2 14 rfl rfl)
theorem dX7_broken_62 : decode cX7_broken 62 = .ok (.istore 5, 2) := dk_54 5 (dk_at dksX7_broken_2 17 rfl rfl)
theorem dX7_broken_64 : decode cX7_broken 64 = .ok (.iload 5, 2) := dk_21 5 (dk_at dksX7_broken_2 19 rfl rfl)
theorem dX7_broken_66 : decode cX7_broken 66 = .ok (.iconst (-1), 1) := dk_2 (dk_at dksX7_broken_2 21 rfl rfl)
theorem dX7_broken_67 : decode cX7_broken 67 = .ok (.if_icmp .ne 7, 3) := dk_160 0 7 (dk_at dksX7_broken_3 0 rfl rfl)
theorem dX7_broken_70 : decode cX7_broken 70 = .ok (.iconst (-1), 1) := dk_2 (dk_at dksX7_broken_3 3 rfl rfl)
theorem dX7_broken_71 : decode cX7_broken 71 = .ok (.goto 18, 3) := dk_167 0 18 (dk_at dksX7_broken_3 4 rfl rfl)
theorem dX7_broken_74 : decode cX7_broken 74 = .ok (.aload_n 0, 1) := dk_42 (dk_at dksX7_broken_3 7 rfl rfl)
theorem dX7_broken_75 : decode cX7_broken 75 = .ok (.getfield 7, 3) := dk_180 0 7 (dk_at dksX7_broken_3 8 rfl rfl)
theorem dX7_broken_78 : decode cX7_broken 78 = .ok (.sipush 2528, 3) := dk_17 9 224 (dk_at dksX7_broken_3 11 rfl rfl)
theorem dX7_broken_81 : decode cX7_broken 81 = .ok (.iconst 5, 1) := dk_8 (dk_at dksX7_broken_3 14 rfl rfl)
theorem dX7_broken_82 : decode cX7_broken 82 = .ok (.iload 5, 2) := dk_21 5 (dk_at dksX7_broken_3 15 rfl rfl)
theorem dX7_broken_84 : decode cX7_broken 84 = .ok (.imul, 1) := dk_104 (dk_at dksX7_broken_3 17 rfl rfl)
theorem dX7_broken_85 : decode cX7_broken 85 = .ok (.iadd, 1) := dk_96 (dk_at dksX7_broken_3 18 rfl rfl)
theorem dX7_broken_86 : decode cX7_broken 86 = .ok (.iconst 1, 1) := dk_4 (dk_at dksX7_broken_3 19 rfl rfl)
theorem dX7_broken_87 : decode cX7_broken 87 = .ok (.iadd, 1) := dk_96 (dk_at dksX7_broken_3 20 rfl rfl)
theorem dX7_broken_88 : decode cX7_broken 88 = .ok (.iaload, 1) := dk_46 (dk_at dksX7_broken_3 21 rfl rfl)
theorem dX7_broken_89 : decode cX7_broken 89 = .ok (.ireturn, 1) := dk_172 (dk_at dksX7_broken_3 22 rfl rfl)
theorem dX7_broken_90 : decode cX7_broken 90 = .ok (.aload_n 0, 1) := dk_42 (dk_at dksX7_broken_3 23 rfl rfl)
theorem dX7_broken_91 : decode cX7_broken 91 = .ok (.getfield 7, 3) := dk_180 0 7 (dk_at dksX7_broken_4 0 rfl rfl)
theorem dX7_broken_94 : decode cX7_broken 94 = .ok (.sipush 2528, 3) := dk_17 9 224 (dk_at dksX7_broken_4 3 rfl rfl)
theorem dX7_broken_97 : decode cX7_broken 97 = .ok (.iconst 5, 1) := dk_8 (dk_at dksX7_broken_4 6 rfl rfl)
theorem dX7_broken_98 : decode cX7_broken 98 = .ok (.iload 4, 2) := dk_21 4 (dk_at dksX7_broken_4 7 rfl rfl)
theorem dX7_broken_100 : decode cX7_broken 100 = .ok (.imul, 1) := dk_104 (dk_at dksX7_broken_4 9 rfl rfl)
theorem dX7_broken_101 : decode cX7_broken 101 = .ok (.iadd, 1) := dk_96 (dk_at dksX7_broken_4 10 rfl rfl)
theorem dX7_broken_102 : decode cX7_broken 102 = .ok (.iload_n 3, 1) := dk_29 (dk_at dksX7_broken_4 11 rfl rfl)
theorem dX7_broken_103 : decode cX7_broken 103 = .ok (.ifCond .ne 7, 3) := dk_154 0 7 (dk_at dksX7_broken_4 12 rfl rfl)
theorem dX7_broken_106 : decode cX7_broken 106 = .ok (.iconst 1, 1) := dk_4 (dk_at dksX7_broken_4 15 rfl rfl)
theorem dX7_broken_107 : decode cX7_broken 107 = .ok (.goto 4, 3) := dk_167 0 4 (dk_at dksX7_broken_4 16 rfl rfl)
theorem dX7_broken_110 : decode cX7_broken 110 = .ok (.iconst 2, 1) := dk_5 (dk_at dksX7_broken_4 19 rfl rfl)
theorem dX7_broken_111 : decode cX7_broken 111 = .ok (.iadd, 1) := dk_96 (dk_at dksX7_broken_4 20 rfl rfl)
theorem dX7_broken_112 : decode cX7_broken 112 = .ok (.iaload, 1) := dk_46 (dk_at dksX7_broken_4 21 rfl rfl)
theorem dX7_broken_113 : decode cX7_broken 113 = .ok (.ireturn, 1) := dk_172 (dk_at dksX7_broken_4 22 rfl rfl)
def dkwX7_brokenOf_5 : List UInt8 := [162, 0, 8, 21, 4, 167, 0, 4, 29, 62, 132, 4, 1, 167, 255, 132, 29, 172]
abbrev dktX7_brokenOf_5 : List UInt8 := dkwX7_brokenOf_5 ++ []
def dkwX7_brokenOf_4 : List UInt8 := [180, 0, 7, 21, 5, 5, 96, 46, 42, 180, 0, 7, 17, 9, 224, 8, 29, 104, 96, 5, 96, 46]
abbrev dktX7_brokenOf_4 : List UInt8 := dkwX7_brokenOf_4 ++ dktX7_brokenOf_5
def dkwX7_brokenOf_3 : List UInt8 := [96, 46, 159, 0, 7, 4, 167, 0, 4, 3, 54, 6, 21, 6, 153, 0, 39, 29, 2, 159, 0, 29, 42]
abbrev dktX7_brokenOf_3 : List UInt8 := dkwX7_brokenOf_3 ++ dktX7_brokenOf_4
def dkwX7_brokenOf_2 : List UInt8 := [163, 0, 33, 42, 180, 0, 7, 21, 5, 6, 96, 46, 42, 180, 0, 7, 17, 9, 144, 5, 27, 104, 96, 4]
abbrev dktX7_brokenOf_2 : List UInt8 := dkwX7_brokenOf_2 ++ dktX7_brokenOf_3
def dkwX7_brokenOf_1 : List UInt8 := [54, 5, 42, 180, 0, 7, 21, 5, 46, 27, 160, 0, 46, 42, 180, 0, 7, 21, 5, 7, 96, 46, 28]
abbrev dktX7_brokenOf_1 : List UInt8 := dkwX7_brokenOf_1 ++ dktX7_brokenOf_2
def dkwX7_brokenOf_0 : List UInt8 := [2, 62, 3, 54, 4, 21, 4, 42, 180, 0, 7, 8, 46, 162, 0, 119, 17, 9, 224, 8, 21, 4, 104, 96]
abbrev dktX7_brokenOf_0 : List UInt8 := dkwX7_brokenOf_0 ++ dktX7_brokenOf_1
theorem dksX7_brokenOf_0 : cX7_brokenOf.data.toList.drop 0 = dktX7_brokenOf_0 := by decide +kernel
theorem dksX7_brokenOf_1 : cX7_brokenOf.data.toList.drop 24 = dktX7_brokenOf_1 := dk_seg dksX7_brokenOf_0 24 rfl rfl
theorem dksX7_brokenOf_2 : cX7_brokenOf.data.toList.drop 47 = dktX7_brokenOf_2 := dk_seg dksX7_brokenOf_1 23 rfl rfl
theorem dksX7_brokenOf_3 : cX7_brokenOf.data.toList.drop 71 = dktX7_brokenOf_3 := dk_seg dksX7_brokenOf_2 24 rfl rfl
theorem dksX7_brokenOf_4 : cX7_brokenOf.data.toList.drop 94 = dktX7_brokenOf_4 := dk_seg dksX7_brokenOf_3 23 rfl rfl
theorem dksX7_brokenOf_5 : cX7_brokenOf.data.toList.drop 116 = dktX7_brokenOf_5 := dk_seg dksX7_brokenOf_4 22 rfl rfl
theorem dX7_brokenOf_0 : decode cX7_brokenOf 0 = .ok (.iconst (-1), 1) := dk_2 (dk_at dksX7_brokenOf_0 0 rfl rfl)
theorem dX7_brokenOf_1 : decode cX7_brokenOf 1 = .ok (.istore_n 3, 1) := dk_62 (dk_at dksX7_brokenOf_0 1 rfl rfl)
theorem dX7_brokenOf_2 : decode cX7_brokenOf 2 = .ok (.iconst 0, 1) := dk_3 (dk_at dksX7_brokenOf_0 2 rfl rfl)
theorem dX7_brokenOf_3 : decode cX7_brokenOf 3 = .ok (.istore 4, 2) := dk_54 4 (dk_at dksX7_brokenOf_0 3 rfl rfl)
theorem dX7_brokenOf_5 : decode cX7_brokenOf 5 = .ok (.iload 4, 2) := dk_21 4 (dk_at dksX7_brokenOf_0 5 rfl rfl)
theorem dX7_brokenOf_7 : decode cX7_brokenOf 7 = .ok (.aload_n 0, 1) := dk_42 (dk_at dksX7_brokenOf_0 7 rfl rfl)
theorem dX7_brokenOf_8 : decode cX7_brokenOf 8 = .ok (.getfield 7, 3) := dk_180 0 7 (dk_at dksX7_brokenOf_0 8 rfl rfl)
theorem dX7_brokenOf_11 : decode cX7_brokenOf 11 = .ok (.iconst 5, 1) := dk_8 (dk_at dksX7_brokenOf_0 11 rfl rfl)
theorem dX7_brokenOf_12 : decode cX7_brokenOf 12 = .ok (.iaload, 1) := dk_46 (dk_at dksX7_brokenOf_0 12 rfl rfl)
theorem dX7_brokenOf_13 : decode cX7_brokenOf 13 = .ok (.if_icmp .ge 119, 3) := dk_162 0 119 (dk_at dksX7_brokenOf_0 13 rfl rfl)
theorem dX7_brokenOf_16 : decode cX7_brokenOf 16 = .ok (.sipush 2528, 3) := dk_17 9 224 (dk_at dksX7_brokenOf_0 16 rfl rfl)
theorem dX7_brokenOf_19 : decode cX7_brokenOf 19 = .ok (.iconst 5, 1) := dk_8 (dk_at dksX7_brokenOf_0 19 rfl rfl)
theorem dX7_brokenOf_20 : decode cX7_brokenOf 20 = .ok (.iload 4, 2) := dk_21 4 (dk_at dksX7_brokenOf_0 20 rfl rfl)
theorem dX7_brokenOf_22 : decode cX7_brokenOf 22 = .ok (.imul, 1) := dk_104 (dk_at dksX7_brokenOf_0 22 rfl rfl)
theorem dX7_brokenOf_23 : decode cX7_brokenOf 23 = .ok (.iadd, 1) := dk_96 (dk_at dksX7_brokenOf_0 23 rfl rfl)
theorem dX7_brokenOf_24 : decode cX7_brokenOf 24 = .ok (.istore 5, 2) := dk_54 5 (dk_at dksX7_brokenOf_1 0 rfl rfl)
theorem dX7_brokenOf_26 : decode cX7_brokenOf 26 = .ok (.aload_n 0, 1) := dk_42 (dk_at dksX7_brokenOf_1 2 rfl rfl)
theorem dX7_brokenOf_27 : decode cX7_brokenOf 27 = .ok (.getfield 7, 3) := dk_180 0 7 (dk_at dksX7_brokenOf_1 3 rfl rfl)
theorem dX7_brokenOf_30 : decode cX7_brokenOf 30 = .ok (.iload 5, 2) := dk_21 5 (dk_at dksX7_brokenOf_1 6 rfl rfl)
theorem dX7_brokenOf_32 : decode cX7_brokenOf 32 = .ok (.iaload, 1) := dk_46 (dk_at dksX7_brokenOf_1 8 rfl rfl)
theorem dX7_brokenOf_33 : decode cX7_brokenOf 33 = .ok (.iload_n 1, 1) := dk_27 (dk_at dksX7_brokenOf_1 9 rfl rfl)
theorem dX7_brokenOf_34 : decode cX7_brokenOf 34 = .ok (.if_icmp .ne 46, 3) := dk_160 0 46 (dk_at dksX7_brokenOf_1 10 rfl rfl)
theorem dX7_brokenOf_37 : decode cX7_brokenOf 37 = .ok (.aload_n 0, 1) := dk_42 (dk_at dksX7_brokenOf_1 13 rfl rfl)
theorem dX7_brokenOf_38 : decode cX7_brokenOf 38 = .ok (.getfield 7, 3) := dk_180 0 7 (dk_at dksX7_brokenOf_1 14 rfl rfl)
theorem dX7_brokenOf_41 : decode cX7_brokenOf 41 = .ok (.iload 5, 2) := dk_21 5 (dk_at dksX7_brokenOf_1 17 rfl rfl)
theorem dX7_brokenOf_43 : decode cX7_brokenOf 43 = .ok (.iconst 4, 1) := dk_7 (dk_at dksX7_brokenOf_1 19 rfl rfl)
theorem dX7_brokenOf_44 : decode cX7_brokenOf 44 = .ok (.iadd, 1) := dk_96 (dk_at dksX7_brokenOf_1 20 rfl rfl)
theorem dX7_brokenOf_45 : decode cX7_brokenOf 45 = .ok (.iaload, 1) := dk_46 (dk_at dksX7_brokenOf_1 21 rfl rfl)
theorem dX7_brokenOf_46 : decode cX7_brokenOf 46 = .ok (.iload_n 2, 1) := dk_28 (dk_at dksX7_brokenOf_1 22 rfl rfl)
theorem dX7_brokenOf_47 : decode cX7_brokenOf 47 = .ok (.if_icmp .gt 33, 3) := dk_163 0 33 (dk_at dksX7_brokenOf_2 0 rfl rfl)
theorem dX7_brokenOf_50 : decode cX7_brokenOf 50 = .ok (.aload_n 0, 1) := dk_42 (dk_at dksX7_brokenOf_2 3 rfl rfl)
theorem dX7_brokenOf_51 : decode cX7_brokenOf 51 = .ok (.getfield 7, 3) := dk_180 0 7 (dk_at dksX7_brokenOf_2 4 rfl rfl)
theorem dX7_brokenOf_54 : decode cX7_brokenOf 54 = .ok (.iload 5, 2) := dk_21 5 (dk_at dksX7_brokenOf_2 7 rfl rfl)
theorem dX7_brokenOf_56 : decode cX7_brokenOf 56 = .ok (.iconst 3, 1) := dk_6 (dk_at dksX7_brokenOf_2 9 rfl rfl)
theorem dX7_brokenOf_57 : decode cX7_brokenOf 57 = .ok (.iadd, 1) := dk_96 (dk_at dksX7_brokenOf_2 10 rfl rfl)
theorem dX7_brokenOf_58 : decode cX7_brokenOf 58 = .ok (.iaload, 1) := dk_46 (dk_at dksX7_brokenOf_2 11 rfl rfl)
theorem dX7_brokenOf_59 : decode cX7_brokenOf 59 = .ok (.aload_n 0, 1) := dk_42 (dk_at dksX7_brokenOf_2 12 rfl rfl)
theorem dX7_brokenOf_60 : decode cX7_brokenOf 60 = .ok (.getfield 7, 3) := dk_180 0 7 (dk_at dksX7_brokenOf_2 13 rfl rfl)
theorem dX7_brokenOf_63 : decode cX7_brokenOf 63 = .ok (.sipush 2448, 3) := dk_17 9 144 (dk_at dksX7_brokenOf_2 16 rfl rfl)
theorem dX7_brokenOf_66 : decode cX7_brokenOf 66 = .ok (.iconst 2, 1) := dk_5 (dk_at dksX7_brokenOf_2 19 rfl rfl)
theorem dX7_brokenOf_67 : decode cX7_brokenOf 67 = .ok (.iload_n 1, 1) := dk_27 (dk_at dksX7_brokenOf_2 20 rfl rfl)
theorem dX7_brokenOf_68 : decode cX7_brokenOf 68 = .ok (.imul, 1) := dk_104 (dk_at dksX7_brokenOf_2 21 rfl rfl)
theorem dX7_brokenOf_69 : decode cX7_brokenOf 69 = .ok (.iadd, 1) := dk_96 (dk_at dksX7_brokenOf_2 22 rfl rfl)
theorem dX7_brokenOf_70 : decode cX7_brokenOf 70 = .ok (.iconst 1, 1) := dk_4 (dk_at dksX7_brokenOf_2 23 rfl rfl)
theorem dX7_brokenOf_71 : decode cX7_brokenOf 71 = .ok (.iadd, 1) := dk_96 (dk_at dksX7_brokenOf_3 0 rfl rfl)
theorem dX7_brokenOf_72 : decode cX7_brokenOf 72 = .ok (.iaload, 1) := dk_46 (dk_at dksX7_brokenOf_3 1 rfl rfl)
theorem dX7_brokenOf_73 : decode cX7_brokenOf 73 = .ok (.if_icmp .eq 7, 3) := dk_159 0 7 (dk_at dksX7_brokenOf_3 2 rfl rfl)
theorem dX7_brokenOf_76 : decode cX7_brokenOf 76 = .ok (.iconst 1, 1) := dk_4 (dk_at dksX7_brokenOf_3 5 rfl rfl)
theorem dX7_brokenOf_77 : decode cX7_brokenOf 77 = .ok (.goto 4, 3) := dk_167 0 4 (dk_at dksX7_brokenOf_3 6 rfl rfl)
theorem dX7_brokenOf_80 : decode cX7_brokenOf 80 = .ok (.iconst 0, 1) := dk_3 (dk_at dksX7_brokenOf_3 9 rfl rfl)
theorem dX7_brokenOf_81 : decode cX7_brokenOf 81 = .ok (.istore 6, 2) := dk_54 6 (dk_at dksX7_brokenOf_3 10 rfl rfl)
theorem dX7_brokenOf_83 : decode cX7_brokenOf 83 = .ok (.iload 6, 2) := dk_21 6 (dk_at dksX7_brokenOf_3 12 rfl rfl)
theorem dX7_brokenOf_85 : decode cX7_brokenOf 85 = .ok (.ifCond .eq 39, 3) := dk_153 0 39 (dk_at dksX7_brokenOf_3 14 rfl rfl)
theorem dX7_brokenOf_88 : decode cX7_brokenOf 88 = .ok (.iload_n 3, 1) := dk_29 (dk_at dksX7_brokenOf_3 17 rfl rfl)
theorem dX7_brokenOf_89 : decode cX7_brokenOf 89 = .ok (.iconst (-1), 1) := dk_2 (dk_at dksX7_brokenOf_3 18 rfl rfl)
theorem dX7_brokenOf_90 : decode cX7_brokenOf 90 = .ok (.if_icmp .eq 29, 3) := dk_159 0 29 (dk_at dksX7_brokenOf_3 19 rfl rfl)
theorem dX7_brokenOf_93 : decode cX7_brokenOf 93 = .ok (.aload_n 0, 1) := dk_42 (dk_at dksX7_brokenOf_3 22 rfl rfl)
theorem dX7_brokenOf_94 : decode cX7_brokenOf 94 = .ok (.getfield 7, 3) := dk_180 0 7 (dk_at dksX7_brokenOf_4 0 rfl rfl)
theorem dX7_brokenOf_97 : decode cX7_brokenOf 97 = .ok (.iload 5, 2) := dk_21 5 (dk_at dksX7_brokenOf_4 3 rfl rfl)
theorem dX7_brokenOf_99 : decode cX7_brokenOf 99 = .ok (.iconst 2, 1) := dk_5 (dk_at dksX7_brokenOf_4 5 rfl rfl)
theorem dX7_brokenOf_100 : decode cX7_brokenOf 100 = .ok (.iadd, 1) := dk_96 (dk_at dksX7_brokenOf_4 6 rfl rfl)
theorem dX7_brokenOf_101 : decode cX7_brokenOf 101 = .ok (.iaload, 1) := dk_46 (dk_at dksX7_brokenOf_4 7 rfl rfl)
theorem dX7_brokenOf_102 : decode cX7_brokenOf 102 = .ok (.aload_n 0, 1) := dk_42 (dk_at dksX7_brokenOf_4 8 rfl rfl)
theorem dX7_brokenOf_103 : decode cX7_brokenOf 103 = .ok (.getfield 7, 3) := dk_180 0 7 (dk_at dksX7_brokenOf_4 9 rfl rfl)
theorem dX7_brokenOf_106 : decode cX7_brokenOf 106 = .ok (.sipush 2528, 3) := dk_17 9 224 (dk_at dksX7_brokenOf_4 12 rfl rfl)
theorem dX7_brokenOf_109 : decode cX7_brokenOf 109 = .ok (.iconst 5, 1) := dk_8 (dk_at dksX7_brokenOf_4 15 rfl rfl)
theorem dX7_brokenOf_110 : decode cX7_brokenOf 110 = .ok (.iload_n 3, 1) := dk_29 (dk_at dksX7_brokenOf_4 16 rfl rfl)
theorem dX7_brokenOf_111 : decode cX7_brokenOf 111 = .ok (.imul, 1) := dk_104 (dk_at dksX7_brokenOf_4 17 rfl rfl)
theorem dX7_brokenOf_112 : decode cX7_brokenOf 112 = .ok (.iadd, 1) := dk_96 (dk_at dksX7_brokenOf_4 18 rfl rfl)
theorem dX7_brokenOf_113 : decode cX7_brokenOf 113 = .ok (.iconst 2, 1) := dk_5 (dk_at dksX7_brokenOf_4 19 rfl rfl)
theorem dX7_brokenOf_114 : decode cX7_brokenOf 114 = .ok (.iadd, 1) := dk_96 (dk_at dksX7_brokenOf_4 20 rfl rfl)
theorem dX7_brokenOf_115 : decode cX7_brokenOf 115 = .ok (.iaload, 1) := dk_46 (dk_at dksX7_brokenOf_4 21 rfl rfl)
theorem dX7_brokenOf_116 : decode cX7_brokenOf 116 = .ok (.if_icmp .ge 8, 3) := dk_162 0 8 (dk_at dksX7_brokenOf_5 0 rfl rfl)
theorem dX7_brokenOf_119 : decode cX7_brokenOf 119 = .ok (.iload 4, 2) := dk_21 4 (dk_at dksX7_brokenOf_5 3 rfl rfl)
theorem dX7_brokenOf_121 : decode cX7_brokenOf 121 = .ok (.goto 4, 3) := dk_167 0 4 (dk_at dksX7_brokenOf_5 5 rfl rfl)
theorem dX7_brokenOf_124 : decode cX7_brokenOf 124 = .ok (.iload_n 3, 1) := dk_29 (dk_at dksX7_brokenOf_5 8 rfl rfl)
theorem dX7_brokenOf_125 : decode cX7_brokenOf 125 = .ok (.istore_n 3, 1) := dk_62 (dk_at dksX7_brokenOf_5 9 rfl rfl)
theorem dX7_brokenOf_126 : decode cX7_brokenOf 126 = .ok (.iinc 4 1, 3) := dk_132 4 1 (dk_at dksX7_brokenOf_5 10 rfl rfl)
theorem dX7_brokenOf_129 : decode cX7_brokenOf 129 = .ok (.goto (-124), 3) := dk_167 255 132 (dk_at dksX7_brokenOf_5 13 rfl rfl)
theorem dX7_brokenOf_132 : decode cX7_brokenOf 132 = .ok (.iload_n 3, 1) := dk_29 (dk_at dksX7_brokenOf_5 16 rfl rfl)
theorem dX7_brokenOf_133 : decode cX7_brokenOf 133 = .ok (.ireturn, 1) := dk_172 (dk_at dksX7_brokenOf_5 17 rfl rfl)
def dkwX7_aheadOf_7 : List UInt8 := [132, 5, 1, 167, 255, 103, 21, 4, 172]
abbrev dktX7_aheadOf_7 : List UInt8 := dkwX7_aheadOf_7 ++ []
def dkwX7_aheadOf_6 : List UInt8 := [17, 9, 224, 8, 21, 4, 104, 96, 5, 96, 46, 161, 0, 8, 21, 5, 167, 0, 5, 21, 4, 54, 4]
abbrev dktX7_aheadOf_6 : List UInt8 := dkwX7_aheadOf_6 ++ dktX7_aheadOf_7
def dkwX7_aheadOf_5 : List UInt8 := [21, 7, 153, 0, 41, 21, 4, 2, 159, 0, 30, 42, 180, 0, 7, 21, 6, 5, 96, 46, 42, 180, 0, 7]
abbrev dktX7_aheadOf_5 : List UInt8 := dkwX7_aheadOf_5 ++ dktX7_aheadOf_6
def dkwX7_aheadOf_4 : List UInt8 := [180, 0, 7, 29, 5, 96, 46, 160, 0, 13, 21, 5, 27, 162, 0, 7, 4, 167, 0, 4, 3, 54, 7]
abbrev dktX7_aheadOf_4 : List UInt8 := dkwX7_aheadOf_4 ++ dktX7_aheadOf_5
def dkwX7_aheadOf_3 : List UInt8 := [5, 96, 46, 42, 180, 0, 7, 29, 5, 96, 46, 161, 0, 29, 42, 180, 0, 7, 21, 6, 5, 96, 46, 42]
abbrev dktX7_aheadOf_3 : List UInt8 := dkwX7_aheadOf_3 ++ dktX7_aheadOf_4
def dkwX7_aheadOf_2 : List UInt8 := [29, 46, 160, 0, 66, 42, 180, 0, 7, 21, 6, 7, 96, 46, 28, 163, 0, 53, 42, 180, 0, 7, 21, 6]
abbrev dktX7_aheadOf_2 : List UInt8 := dkwX7_aheadOf_2 ++ dktX7_aheadOf_3
def dkwX7_aheadOf_1 : List UInt8 := [162, 0, 148, 17, 9, 224, 8, 21, 5, 104, 96, 54, 6, 42, 180, 0, 7, 21, 6, 46, 42, 180, 0, 7]
abbrev dktX7_aheadOf_1 : List UInt8 := dkwX7_aheadOf_1 ++ dktX7_aheadOf_2
def dkwX7_aheadOf_0 : List UInt8 := [17, 9, 224, 8, 27, 104, 96, 62, 2, 54, 4, 3, 54, 5, 21, 5, 42, 180, 0, 7, 8, 46]
abbrev dktX7_aheadOf_0 : List UInt8 := dkwX7_aheadOf_0 ++ dktX7_aheadOf_1
theorem dksX7_aheadOf_0 : cX7_aheadOf.data.toList.drop 0 = dktX7_aheadOf_0 := by decide +kernel
theorem dksX7_aheadOf_1 : cX7_aheadOf.data.toList.drop 22 = dktX7_aheadOf_1 := dk_seg dksX7_aheadOf_0 22 rfl rfl
theorem dksX7_aheadOf_2 : cX7_aheadOf.data.toList.drop 46 = dktX7_aheadOf_2 := dk_seg dksX7_aheadOf_1 24 rfl rfl
theorem dksX7_aheadOf_3 : cX7_aheadOf.data.toList.drop 70 = dktX7_aheadOf_3 := dk_seg dksX7_aheadOf_2 24 rfl rfl
theorem dksX7_aheadOf_4 : cX7_aheadOf.data.toList.drop 94 = dktX7_aheadOf_4 := dk_seg dksX7_aheadOf_3 24 rfl rfl
theorem dksX7_aheadOf_5 : cX7_aheadOf.data.toList.drop 117 = dktX7_aheadOf_5 := dk_seg dksX7_aheadOf_4 23 rfl rfl
theorem dksX7_aheadOf_6 : cX7_aheadOf.data.toList.drop 141 = dktX7_aheadOf_6 := dk_seg dksX7_aheadOf_5 24 rfl rfl
theorem dksX7_aheadOf_7 : cX7_aheadOf.data.toList.drop 164 = dktX7_aheadOf_7 := dk_seg dksX7_aheadOf_6 23 rfl rfl
theorem dX7_aheadOf_0 : decode cX7_aheadOf 0 = .ok (.sipush 2528, 3) := dk_17 9 224 (dk_at dksX7_aheadOf_0 0 rfl rfl)
theorem dX7_aheadOf_3 : decode cX7_aheadOf 3 = .ok (.iconst 5, 1) := dk_8 (dk_at dksX7_aheadOf_0 3 rfl rfl)
theorem dX7_aheadOf_4 : decode cX7_aheadOf 4 = .ok (.iload_n 1, 1) := dk_27 (dk_at dksX7_aheadOf_0 4 rfl rfl)
theorem dX7_aheadOf_5 : decode cX7_aheadOf 5 = .ok (.imul, 1) := dk_104 (dk_at dksX7_aheadOf_0 5 rfl rfl)
theorem dX7_aheadOf_6 : decode cX7_aheadOf 6 = .ok (.iadd, 1) := dk_96 (dk_at dksX7_aheadOf_0 6 rfl rfl)
theorem dX7_aheadOf_7 : decode cX7_aheadOf 7 = .ok (.istore_n 3, 1) := dk_62 (dk_at dksX7_aheadOf_0 7 rfl rfl)
theorem dX7_aheadOf_8 : decode cX7_aheadOf 8 = .ok (.iconst (-1), 1) := dk_2 (dk_at dksX7_aheadOf_0 8 rfl rfl)
theorem dX7_aheadOf_9 : decode cX7_aheadOf 9 = .ok (.istore 4, 2) := dk_54 4 (dk_at dksX7_aheadOf_0 9 rfl rfl)
theorem dX7_aheadOf_11 : decode cX7_aheadOf 11 = .ok (.iconst 0, 1) := dk_3 (dk_at dksX7_aheadOf_0 11 rfl rfl)
theorem dX7_aheadOf_12 : decode cX7_aheadOf 12 = .ok (.istore 5, 2) := dk_54 5 (dk_at dksX7_aheadOf_0 12 rfl rfl)
theorem dX7_aheadOf_14 : decode cX7_aheadOf 14 = .ok (.iload 5, 2) := dk_21 5 (dk_at dksX7_aheadOf_0 14 rfl rfl)
theorem dX7_aheadOf_16 : decode cX7_aheadOf 16 = .ok (.aload_n 0, 1) := dk_42 (dk_at dksX7_aheadOf_0 16 rfl rfl)
theorem dX7_aheadOf_17 : decode cX7_aheadOf 17 = .ok (.getfield 7, 3) := dk_180 0 7 (dk_at dksX7_aheadOf_0 17 rfl rfl)
theorem dX7_aheadOf_20 : decode cX7_aheadOf 20 = .ok (.iconst 5, 1) := dk_8 (dk_at dksX7_aheadOf_0 20 rfl rfl)
theorem dX7_aheadOf_21 : decode cX7_aheadOf 21 = .ok (.iaload, 1) := dk_46 (dk_at dksX7_aheadOf_0 21 rfl rfl)
theorem dX7_aheadOf_22 : decode cX7_aheadOf 22 = .ok (.if_icmp .ge 148, 3) := dk_162 0 148 (dk_at dksX7_aheadOf_1 0 rfl rfl)
theorem dX7_aheadOf_25 : decode cX7_aheadOf 25 = .ok (.sipush 2528, 3) := dk_17 9 224 (dk_at dksX7_aheadOf_1 3 rfl rfl)
theorem dX7_aheadOf_28 : decode cX7_aheadOf 28 = .ok (.iconst 5, 1) := dk_8 (dk_at dksX7_aheadOf_1 6 rfl rfl)
theorem dX7_aheadOf_29 : decode cX7_aheadOf 29 = .ok (.iload 5, 2) := dk_21 5 (dk_at dksX7_aheadOf_1 7 rfl rfl)
theorem dX7_aheadOf_31 : decode cX7_aheadOf 31 = .ok (.imul, 1) := dk_104 (dk_at dksX7_aheadOf_1 9 rfl rfl)
theorem dX7_aheadOf_32 : decode cX7_aheadOf 32 = .ok (.iadd, 1) := dk_96 (dk_at dksX7_aheadOf_1 10 rfl rfl)
theorem dX7_aheadOf_33 : decode cX7_aheadOf 33 = .ok (.istore 6, 2) := dk_54 6 (dk_at dksX7_aheadOf_1 11 rfl rfl)
theorem dX7_aheadOf_35 : decode cX7_aheadOf 35 = .ok (.aload_n 0, 1) := dk_42 (dk_at dksX7_aheadOf_1 13 rfl rfl)
theorem dX7_aheadOf_36 : decode cX7_aheadOf 36 = .ok (.getfield 7, 3) := dk_180 0 7 (dk_at dksX7_aheadOf_1 14 rfl rfl)
theorem dX7_aheadOf_39 : decode cX7_aheadOf 39 = .ok (.iload 6, 2) := dk_21 6 (dk_at dksX7_aheadOf_1 17 rfl rfl)
theorem dX7_aheadOf_41 : decode cX7_aheadOf 41 = .ok (.iaload, 1) := dk_46 (dk_at dksX7_aheadOf_1 19 rfl rfl)
theorem dX7_aheadOf_42 : decode cX7_aheadOf 42 = .ok (.aload_n 0, 1) := dk_42 (dk_at dksX7_aheadOf_1 20 rfl rfl)
theorem dX7_aheadOf_43 : decode cX7_aheadOf 43 = .ok (.getfield 7, 3) := dk_180 0 7 (dk_at dksX7_aheadOf_1 21 rfl rfl)
theorem dX7_aheadOf_46 : decode cX7_aheadOf 46 = .ok (.iload_n 3, 1) := dk_29 (dk_at dksX7_aheadOf_2 0 rfl rfl)
theorem dX7_aheadOf_47 : decode cX7_aheadOf 47 = .ok (.iaload, 1) := dk_46 (dk_at dksX7_aheadOf_2 1 rfl rfl)
theorem dX7_aheadOf_48 : decode cX7_aheadOf 48 = .ok (.if_icmp .ne 66, 3) := dk_160 0 66 (dk_at dksX7_aheadOf_2 2 rfl rfl)
theorem dX7_aheadOf_51 : decode cX7_aheadOf 51 = .ok (.aload_n 0, 1) := dk_42 (dk_at dksX7_aheadOf_2 5 rfl rfl)
theorem dX7_aheadOf_52 : decode cX7_aheadOf 52 = .ok (.getfield 7, 3) := dk_180 0 7 (dk_at dksX7_aheadOf_2 6 rfl rfl)
theorem dX7_aheadOf_55 : decode cX7_aheadOf 55 = .ok (.iload 6, 2) := dk_21 6 (dk_at dksX7_aheadOf_2 9 rfl rfl)
theorem dX7_aheadOf_57 : decode cX7_aheadOf 57 = .ok (.iconst 4, 1) := dk_7 (dk_at dksX7_aheadOf_2 11 rfl rfl)
theorem dX7_aheadOf_58 : decode cX7_aheadOf 58 = .ok (.iadd, 1) := dk_96 (dk_at dksX7_aheadOf_2 12 rfl rfl)
theorem dX7_aheadOf_59 : decode cX7_aheadOf 59 = .ok (.iaload, 1) := dk_46 (dk_at dksX7_aheadOf_2 13 rfl rfl)
theorem dX7_aheadOf_60 : decode cX7_aheadOf 60 = .ok (.iload_n 2, 1) := dk_28 (dk_at dksX7_aheadOf_2 14 rfl rfl)
theorem dX7_aheadOf_61 : decode cX7_aheadOf 61 = .ok (.if_icmp .gt 53, 3) := dk_163 0 53 (dk_at dksX7_aheadOf_2 15 rfl rfl)
theorem dX7_aheadOf_64 : decode cX7_aheadOf 64 = .ok (.aload_n 0, 1) := dk_42 (dk_at dksX7_aheadOf_2 18 rfl rfl)
theorem dX7_aheadOf_65 : decode cX7_aheadOf 65 = .ok (.getfield 7, 3) := dk_180 0 7 (dk_at dksX7_aheadOf_2 19 rfl rfl)
theorem dX7_aheadOf_68 : decode cX7_aheadOf 68 = .ok (.iload 6, 2) := dk_21 6 (dk_at dksX7_aheadOf_2 22 rfl rfl)
theorem dX7_aheadOf_70 : decode cX7_aheadOf 70 = .ok (.iconst 2, 1) := dk_5 (dk_at dksX7_aheadOf_3 0 rfl rfl)
theorem dX7_aheadOf_71 : decode cX7_aheadOf 71 = .ok (.iadd, 1) := dk_96 (dk_at dksX7_aheadOf_3 1 rfl rfl)
theorem dX7_aheadOf_72 : decode cX7_aheadOf 72 = .ok (.iaload, 1) := dk_46 (dk_at dksX7_aheadOf_3 2 rfl rfl)
theorem dX7_aheadOf_73 : decode cX7_aheadOf 73 = .ok (.aload_n 0, 1) := dk_42 (dk_at dksX7_aheadOf_3 3 rfl rfl)
theorem dX7_aheadOf_74 : decode cX7_aheadOf 74 = .ok (.getfield 7, 3) := dk_180 0 7 (dk_at dksX7_aheadOf_3 4 rfl rfl)
theorem dX7_aheadOf_77 : decode cX7_aheadOf 77 = .ok (.iload_n 3, 1) := dk_29 (dk_at dksX7_aheadOf_3 7 rfl rfl)
theorem dX7_aheadOf_78 : decode cX7_aheadOf 78 = .ok (.iconst 2, 1) := dk_5 (dk_at dksX7_aheadOf_3 8 rfl rfl)
theorem dX7_aheadOf_79 : decode cX7_aheadOf 79 = .ok (.iadd, 1) := dk_96 (dk_at dksX7_aheadOf_3 9 rfl rfl)
theorem dX7_aheadOf_80 : decode cX7_aheadOf 80 = .ok (.iaload, 1) := dk_46 (dk_at dksX7_aheadOf_3 10 rfl rfl)
theorem dX7_aheadOf_81 : decode cX7_aheadOf 81 = .ok (.if_icmp .lt 29, 3) := dk_161 0 29 (dk_at dksX7_aheadOf_3 11 rfl rfl)
theorem dX7_aheadOf_84 : decode cX7_aheadOf 84 = .ok (.aload_n 0, 1) := dk_42 (dk_at dksX7_aheadOf_3 14 rfl rfl)
theorem dX7_aheadOf_85 : decode cX7_aheadOf 85 = .ok (.getfield 7, 3) := dk_180 0 7 (dk_at dksX7_aheadOf_3 15 rfl rfl)
theorem dX7_aheadOf_88 : decode cX7_aheadOf 88 = .ok (.iload 6, 2) := dk_21 6 (dk_at dksX7_aheadOf_3 18 rfl rfl)
theorem dX7_aheadOf_90 : decode cX7_aheadOf 90 = .ok (.iconst 2, 1) := dk_5 (dk_at dksX7_aheadOf_3 20 rfl rfl)
theorem dX7_aheadOf_91 : decode cX7_aheadOf 91 = .ok (.iadd, 1) := dk_96 (dk_at dksX7_aheadOf_3 21 rfl rfl)
theorem dX7_aheadOf_92 : decode cX7_aheadOf 92 = .ok (.iaload, 1) := dk_46 (dk_at dksX7_aheadOf_3 22 rfl rfl)
theorem dX7_aheadOf_93 : decode cX7_aheadOf 93 = .ok (.aload_n 0, 1) := dk_42 (dk_at dksX7_aheadOf_3 23 rfl rfl)
theorem dX7_aheadOf_94 : decode cX7_aheadOf 94 = .ok (.getfield 7, 3) := dk_180 0 7 (dk_at dksX7_aheadOf_4 0 rfl rfl)
theorem dX7_aheadOf_97 : decode cX7_aheadOf 97 = .ok (.iload_n 3, 1) := dk_29 (dk_at dksX7_aheadOf_4 3 rfl rfl)
theorem dX7_aheadOf_98 : decode cX7_aheadOf 98 = .ok (.iconst 2, 1) := dk_5 (dk_at dksX7_aheadOf_4 4 rfl rfl)
theorem dX7_aheadOf_99 : decode cX7_aheadOf 99 = .ok (.iadd, 1) := dk_96 (dk_at dksX7_aheadOf_4 5 rfl rfl)
theorem dX7_aheadOf_100 : decode cX7_aheadOf 100 = .ok (.iaload, 1) := dk_46 (dk_at dksX7_aheadOf_4 6 rfl rfl)
theorem dX7_aheadOf_101 : decode cX7_aheadOf 101 = .ok (.if_icmp .ne 13, 3) := dk_160 0 13 (dk_at dksX7_aheadOf_4 7 rfl rfl)
theorem dX7_aheadOf_104 : decode cX7_aheadOf 104 = .ok (.iload 5, 2) := dk_21 5 (dk_at dksX7_aheadOf_4 10 rfl rfl)
theorem dX7_aheadOf_106 : decode cX7_aheadOf 106 = .ok (.iload_n 1, 1) := dk_27 (dk_at dksX7_aheadOf_4 12 rfl rfl)
theorem dX7_aheadOf_107 : decode cX7_aheadOf 107 = .ok (.if_icmp .ge 7, 3) := dk_162 0 7 (dk_at dksX7_aheadOf_4 13 rfl rfl)
theorem dX7_aheadOf_110 : decode cX7_aheadOf 110 = .ok (.iconst 1, 1) := dk_4 (dk_at dksX7_aheadOf_4 16 rfl rfl)
theorem dX7_aheadOf_111 : decode cX7_aheadOf 111 = .ok (.goto 4, 3) := dk_167 0 4 (dk_at dksX7_aheadOf_4 17 rfl rfl)
theorem dX7_aheadOf_114 : decode cX7_aheadOf 114 = .ok (.iconst 0, 1) := dk_3 (dk_at dksX7_aheadOf_4 20 rfl rfl)
theorem dX7_aheadOf_115 : decode cX7_aheadOf 115 = .ok (.istore 7, 2) := dk_54 7 (dk_at dksX7_aheadOf_4 21 rfl rfl)
theorem dX7_aheadOf_117 : decode cX7_aheadOf 117 = .ok (.iload 7, 2) := dk_21 7 (dk_at dksX7_aheadOf_5 0 rfl rfl)
theorem dX7_aheadOf_119 : decode cX7_aheadOf 119 = .ok (.ifCond .eq 41, 3) := dk_153 0 41 (dk_at dksX7_aheadOf_5 2 rfl rfl)
theorem dX7_aheadOf_122 : decode cX7_aheadOf 122 = .ok (.iload 4, 2) := dk_21 4 (dk_at dksX7_aheadOf_5 5 rfl rfl)
theorem dX7_aheadOf_124 : decode cX7_aheadOf 124 = .ok (.iconst (-1), 1) := dk_2 (dk_at dksX7_aheadOf_5 7 rfl rfl)
theorem dX7_aheadOf_125 : decode cX7_aheadOf 125 = .ok (.if_icmp .eq 30, 3) := dk_159 0 30 (dk_at dksX7_aheadOf_5 8 rfl rfl)
theorem dX7_aheadOf_128 : decode cX7_aheadOf 128 = .ok (.aload_n 0, 1) := dk_42 (dk_at dksX7_aheadOf_5 11 rfl rfl)
theorem dX7_aheadOf_129 : decode cX7_aheadOf 129 = .ok (.getfield 7, 3) := dk_180 0 7 (dk_at dksX7_aheadOf_5 12 rfl rfl)
theorem dX7_aheadOf_132 : decode cX7_aheadOf 132 = .ok (.iload 6, 2) := dk_21 6 (dk_at dksX7_aheadOf_5 15 rfl rfl)
theorem dX7_aheadOf_134 : decode cX7_aheadOf 134 = .ok (.iconst 2, 1) := dk_5 (dk_at dksX7_aheadOf_5 17 rfl rfl)
theorem dX7_aheadOf_135 : decode cX7_aheadOf 135 = .ok (.iadd, 1) := dk_96 (dk_at dksX7_aheadOf_5 18 rfl rfl)
theorem dX7_aheadOf_136 : decode cX7_aheadOf 136 = .ok (.iaload, 1) := dk_46 (dk_at dksX7_aheadOf_5 19 rfl rfl)
theorem dX7_aheadOf_137 : decode cX7_aheadOf 137 = .ok (.aload_n 0, 1) := dk_42 (dk_at dksX7_aheadOf_5 20 rfl rfl)
theorem dX7_aheadOf_138 : decode cX7_aheadOf 138 = .ok (.getfield 7, 3) := dk_180 0 7 (dk_at dksX7_aheadOf_5 21 rfl rfl)
theorem dX7_aheadOf_141 : decode cX7_aheadOf 141 = .ok (.sipush 2528, 3) := dk_17 9 224 (dk_at dksX7_aheadOf_6 0 rfl rfl)
theorem dX7_aheadOf_144 : decode cX7_aheadOf 144 = .ok (.iconst 5, 1) := dk_8 (dk_at dksX7_aheadOf_6 3 rfl rfl)
theorem dX7_aheadOf_145 : decode cX7_aheadOf 145 = .ok (.iload 4, 2) := dk_21 4 (dk_at dksX7_aheadOf_6 4 rfl rfl)
theorem dX7_aheadOf_147 : decode cX7_aheadOf 147 = .ok (.imul, 1) := dk_104 (dk_at dksX7_aheadOf_6 6 rfl rfl)
theorem dX7_aheadOf_148 : decode cX7_aheadOf 148 = .ok (.iadd, 1) := dk_96 (dk_at dksX7_aheadOf_6 7 rfl rfl)
theorem dX7_aheadOf_149 : decode cX7_aheadOf 149 = .ok (.iconst 2, 1) := dk_5 (dk_at dksX7_aheadOf_6 8 rfl rfl)
theorem dX7_aheadOf_150 : decode cX7_aheadOf 150 = .ok (.iadd, 1) := dk_96 (dk_at dksX7_aheadOf_6 9 rfl rfl)
theorem dX7_aheadOf_151 : decode cX7_aheadOf 151 = .ok (.iaload, 1) := dk_46 (dk_at dksX7_aheadOf_6 10 rfl rfl)
theorem dX7_aheadOf_152 : decode cX7_aheadOf 152 = .ok (.if_icmp .lt 8, 3) := dk_161 0 8 (dk_at dksX7_aheadOf_6 11 rfl rfl)
theorem dX7_aheadOf_155 : decode cX7_aheadOf 155 = .ok (.iload 5, 2) := dk_21 5 (dk_at dksX7_aheadOf_6 14 rfl rfl)
theorem dX7_aheadOf_157 : decode cX7_aheadOf 157 = .ok (.goto 5, 3) := dk_167 0 5 (dk_at dksX7_aheadOf_6 16 rfl rfl)
theorem dX7_aheadOf_160 : decode cX7_aheadOf 160 = .ok (.iload 4, 2) := dk_21 4 (dk_at dksX7_aheadOf_6 19 rfl rfl)
theorem dX7_aheadOf_162 : decode cX7_aheadOf 162 = .ok (.istore 4, 2) := dk_54 4 (dk_at dksX7_aheadOf_6 21 rfl rfl)
theorem dX7_aheadOf_164 : decode cX7_aheadOf 164 = .ok (.iinc 5 1, 3) := dk_132 5 1 (dk_at dksX7_aheadOf_7 0 rfl rfl)
theorem dX7_aheadOf_167 : decode cX7_aheadOf 167 = .ok (.goto (-153), 3) := dk_167 255 103 (dk_at dksX7_aheadOf_7 3 rfl rfl)
theorem dX7_aheadOf_170 : decode cX7_aheadOf 170 = .ok (.iload 4, 2) := dk_21 4 (dk_at dksX7_aheadOf_7 6 rfl rfl)
theorem dX7_aheadOf_172 : decode cX7_aheadOf 172 = .ok (.ireturn, 1) := dk_172 (dk_at dksX7_aheadOf_7 8 rfl rfl)
def dkwX7_paper_5 : List UInt8 := [16, 7, 46, 182, 0, 125, 172]
abbrev dktX7_paper_5 : List UInt8 := dkwX7_paper_5 ++ []
def dkwX7_paper_4 : List UInt8 := [27, 28, 29, 21, 4, 182, 0, 151, 42, 180, 0, 7, 16, 7, 92, 46, 4, 96, 79, 42, 42, 180, 0, 7]
abbrev dktX7_paper_4 : List UInt8 := dkwX7_paper_4 ++ dktX7_paper_5
def dkwX7_paper_3 : List UInt8 := [160, 0, 10, 42, 16, 251, 182, 0, 125, 172, 42, 17, 13, 200, 7, 42, 180, 0, 7, 16, 7, 46, 104, 96]
abbrev dktX7_paper_3 : List UInt8 := dkwX7_paper_3 ++ dktX7_paper_4
def dkwX7_paper_2 : List UInt8 := [182, 1, 248, 154, 0, 10, 42, 16, 254, 182, 0, 125, 172, 42, 180, 0, 7, 16, 7, 46, 16, 120]
abbrev dktX7_paper_2 : List UInt8 := dkwX7_paper_2 ++ dktX7_paper_3
def dkwX7_paper_1 : List UInt8 := [184, 0, 121, 153, 0, 11, 21, 4, 184, 0, 159, 154, 0, 9, 42, 2, 182, 0, 125, 172, 42, 27]
abbrev dktX7_paper_1 : List UInt8 := dkwX7_paper_1 ++ dktX7_paper_2
def dkwX7_paper_0 : List UInt8 := [42, 3, 181, 0, 113, 28, 133, 9, 20, 0, 142, 184, 0, 121, 153, 0, 23, 29, 133, 9, 20, 1, 84]
abbrev dktX7_paper_0 : List UInt8 := dkwX7_paper_0 ++ dktX7_paper_1
theorem dksX7_paper_0 : cX7_paper.data.toList.drop 0 = dktX7_paper_0 := by decide +kernel
theorem dksX7_paper_1 : cX7_paper.data.toList.drop 23 = dktX7_paper_1 := dk_seg dksX7_paper_0 23 rfl rfl
theorem dksX7_paper_2 : cX7_paper.data.toList.drop 45 = dktX7_paper_2 := dk_seg dksX7_paper_1 22 rfl rfl
theorem dksX7_paper_3 : cX7_paper.data.toList.drop 67 = dktX7_paper_3 := dk_seg dksX7_paper_2 22 rfl rfl
theorem dksX7_paper_4 : cX7_paper.data.toList.drop 91 = dktX7_paper_4 := dk_seg dksX7_paper_3 24 rfl rfl
theorem dksX7_paper_5 : cX7_paper.data.toList.drop 115 = dktX7_paper_5 := dk_seg dksX7_paper_4 24 rfl rfl
theorem dX7_paper_0 : decode cX7_paper 0 = .ok (.aload_n 0, 1) := dk_42 (dk_at dksX7_paper_0 0 rfl rfl)
theorem dX7_paper_1 : decode cX7_paper 1 = .ok (.iconst 0, 1) := dk_3 (dk_at dksX7_paper_0 1 rfl rfl)
theorem dX7_paper_2 : decode cX7_paper 2 = .ok (.putfield 113, 3) := dk_181 0 113 (dk_at dksX7_paper_0 2 rfl rfl)
theorem dX7_paper_5 : decode cX7_paper 5 = .ok (.iload_n 2, 1) := dk_28 (dk_at dksX7_paper_0 5 rfl rfl)
theorem dX7_paper_6 : decode cX7_paper 6 = .ok (.i2l, 1) := dk_133 (dk_at dksX7_paper_0 6 rfl rfl)
theorem dX7_paper_7 : decode cX7_paper 7 = .ok (.lconst 0, 1) := dk_9 (dk_at dksX7_paper_0 7 rfl rfl)
theorem dX7_paper_8 : decode cX7_paper 8 = .ok (.ldc2_w 142, 3) := dk_20 0 142 (dk_at dksX7_paper_0 8 rfl rfl)
theorem dX7_paper_11 : decode cX7_paper 11 = .ok (.invokestatic 121, 3) := dk_184 0 121 (dk_at dksX7_paper_0 11 rfl rfl)
theorem dX7_paper_14 : decode cX7_paper 14 = .ok (.ifCond .eq 23, 3) := dk_153 0 23 (dk_at dksX7_paper_0 14 rfl rfl)
theorem dX7_paper_17 : decode cX7_paper 17 = .ok (.iload_n 3, 1) := dk_29 (dk_at dksX7_paper_0 17 rfl rfl)
theorem dX7_paper_18 : decode cX7_paper 18 = .ok (.i2l, 1) := dk_133 (dk_at dksX7_paper_0 18 rfl rfl)
theorem dX7_paper_19 : decode cX7_paper 19 = .ok (.lconst 0, 1) := dk_9 (dk_at dksX7_paper_0 19 rfl rfl)
theorem dX7_paper_20 : decode cX7_paper 20 = .ok (.ldc2_w 340, 3) := dk_20 1 84 (dk_at dksX7_paper_0 20 rfl rfl)
theorem dX7_paper_23 : decode cX7_paper 23 = .ok (.invokestatic 121, 3) := dk_184 0 121 (dk_at dksX7_paper_1 0 rfl rfl)
theorem dX7_paper_26 : decode cX7_paper 26 = .ok (.ifCond .eq 11, 3) := dk_153 0 11 (dk_at dksX7_paper_1 3 rfl rfl)
theorem dX7_paper_29 : decode cX7_paper 29 = .ok (.iload 4, 2) := dk_21 4 (dk_at dksX7_paper_1 6 rfl rfl)
theorem dX7_paper_31 : decode cX7_paper 31 = .ok (.invokestatic 159, 3) := dk_184 0 159 (dk_at dksX7_paper_1 8 rfl rfl)
theorem dX7_paper_34 : decode cX7_paper 34 = .ok (.ifCond .ne 9, 3) := dk_154 0 9 (dk_at dksX7_paper_1 11 rfl rfl)
theorem dX7_paper_37 : decode cX7_paper 37 = .ok (.aload_n 0, 1) := dk_42 (dk_at dksX7_paper_1 14 rfl rfl)
theorem dX7_paper_38 : decode cX7_paper 38 = .ok (.iconst (-1), 1) := dk_2 (dk_at dksX7_paper_1 15 rfl rfl)
theorem dX7_paper_39 : decode cX7_paper 39 = .ok (.invokevirtual 125, 3) := dk_182 0 125 (dk_at dksX7_paper_1 16 rfl rfl)
theorem dX7_paper_42 : decode cX7_paper 42 = .ok (.ireturn, 1) := dk_172 (dk_at dksX7_paper_1 19 rfl rfl)
theorem dX7_paper_43 : decode cX7_paper 43 = .ok (.aload_n 0, 1) := dk_42 (dk_at dksX7_paper_1 20 rfl rfl)
theorem dX7_paper_44 : decode cX7_paper 44 = .ok (.iload_n 1, 1) := dk_27 (dk_at dksX7_paper_1 21 rfl rfl)
theorem dX7_paper_45 : decode cX7_paper 45 = .ok (.invokevirtual 504, 3) := dk_182 1 248 (dk_at dksX7_paper_2 0 rfl rfl)
theorem dX7_paper_48 : decode cX7_paper 48 = .ok (.ifCond .ne 10, 3) := dk_154 0 10 (dk_at dksX7_paper_2 3 rfl rfl)
theorem dX7_paper_51 : decode cX7_paper 51 = .ok (.aload_n 0, 1) := dk_42 (dk_at dksX7_paper_2 6 rfl rfl)
theorem dX7_paper_52 : decode cX7_paper 52 = .ok (.bipush (-2), 2) := dk_16 254 (dk_at dksX7_paper_2 7 rfl rfl)
theorem dX7_paper_54 : decode cX7_paper 54 = .ok (.invokevirtual 125, 3) := dk_182 0 125 (dk_at dksX7_paper_2 9 rfl rfl)
theorem dX7_paper_57 : decode cX7_paper 57 = .ok (.ireturn, 1) := dk_172 (dk_at dksX7_paper_2 12 rfl rfl)
theorem dX7_paper_58 : decode cX7_paper 58 = .ok (.aload_n 0, 1) := dk_42 (dk_at dksX7_paper_2 13 rfl rfl)
theorem dX7_paper_59 : decode cX7_paper 59 = .ok (.getfield 7, 3) := dk_180 0 7 (dk_at dksX7_paper_2 14 rfl rfl)
theorem dX7_paper_62 : decode cX7_paper 62 = .ok (.bipush 7, 2) := dk_16 7 (dk_at dksX7_paper_2 17 rfl rfl)
theorem dX7_paper_64 : decode cX7_paper 64 = .ok (.iaload, 1) := dk_46 (dk_at dksX7_paper_2 19 rfl rfl)
theorem dX7_paper_65 : decode cX7_paper 65 = .ok (.bipush 120, 2) := dk_16 120 (dk_at dksX7_paper_2 20 rfl rfl)
theorem dX7_paper_67 : decode cX7_paper 67 = .ok (.if_icmp .ne 10, 3) := dk_160 0 10 (dk_at dksX7_paper_3 0 rfl rfl)
theorem dX7_paper_70 : decode cX7_paper 70 = .ok (.aload_n 0, 1) := dk_42 (dk_at dksX7_paper_3 3 rfl rfl)
theorem dX7_paper_71 : decode cX7_paper 71 = .ok (.bipush (-5), 2) := dk_16 251 (dk_at dksX7_paper_3 4 rfl rfl)
theorem dX7_paper_73 : decode cX7_paper 73 = .ok (.invokevirtual 125, 3) := dk_182 0 125 (dk_at dksX7_paper_3 6 rfl rfl)
theorem dX7_paper_76 : decode cX7_paper 76 = .ok (.ireturn, 1) := dk_172 (dk_at dksX7_paper_3 9 rfl rfl)
theorem dX7_paper_77 : decode cX7_paper 77 = .ok (.aload_n 0, 1) := dk_42 (dk_at dksX7_paper_3 10 rfl rfl)
theorem dX7_paper_78 : decode cX7_paper 78 = .ok (.sipush 3528, 3) := dk_17 13 200 (dk_at dksX7_paper_3 11 rfl rfl)
theorem dX7_paper_81 : decode cX7_paper 81 = .ok (.iconst 4, 1) := dk_7 (dk_at dksX7_paper_3 14 rfl rfl)
theorem dX7_paper_82 : decode cX7_paper 82 = .ok (.aload_n 0, 1) := dk_42 (dk_at dksX7_paper_3 15 rfl rfl)
theorem dX7_paper_83 : decode cX7_paper 83 = .ok (.getfield 7, 3) := dk_180 0 7 (dk_at dksX7_paper_3 16 rfl rfl)
theorem dX7_paper_86 : decode cX7_paper 86 = .ok (.bipush 7, 2) := dk_16 7 (dk_at dksX7_paper_3 19 rfl rfl)
theorem dX7_paper_88 : decode cX7_paper 88 = .ok (.iaload, 1) := dk_46 (dk_at dksX7_paper_3 21 rfl rfl)
theorem dX7_paper_89 : decode cX7_paper 89 = .ok (.imul, 1) := dk_104 (dk_at dksX7_paper_3 22 rfl rfl)
theorem dX7_paper_90 : decode cX7_paper 90 = .ok (.iadd, 1) := dk_96 (dk_at dksX7_paper_3 23 rfl rfl)
theorem dX7_paper_91 : decode cX7_paper 91 = .ok (.iload_n 1, 1) := dk_27 (dk_at dksX7_paper_4 0 rfl rfl)
theorem dX7_paper_92 : decode cX7_paper 92 = .ok (.iload_n 2, 1) := dk_28 (dk_at dksX7_paper_4 1 rfl rfl)
theorem dX7_paper_93 : decode cX7_paper 93 = .ok (.iload_n 3, 1) := dk_29 (dk_at dksX7_paper_4 2 rfl rfl)
theorem dX7_paper_94 : decode cX7_paper 94 = .ok (.iload 4, 2) := dk_21 4 (dk_at dksX7_paper_4 3 rfl rfl)
theorem dX7_paper_96 : decode cX7_paper 96 = .ok (.invokevirtual 151, 3) := dk_182 0 151 (dk_at dksX7_paper_4 5 rfl rfl)
theorem dX7_paper_99 : decode cX7_paper 99 = .ok (.aload_n 0, 1) := dk_42 (dk_at dksX7_paper_4 8 rfl rfl)
theorem dX7_paper_100 : decode cX7_paper 100 = .ok (.getfield 7, 3) := dk_180 0 7 (dk_at dksX7_paper_4 9 rfl rfl)
theorem dX7_paper_103 : decode cX7_paper 103 = .ok (.bipush 7, 2) := dk_16 7 (dk_at dksX7_paper_4 12 rfl rfl)
theorem dX7_paper_105 : decode cX7_paper 105 = .ok (.dup2, 1) := dk_92 (dk_at dksX7_paper_4 14 rfl rfl)
theorem dX7_paper_106 : decode cX7_paper 106 = .ok (.iaload, 1) := dk_46 (dk_at dksX7_paper_4 15 rfl rfl)
theorem dX7_paper_107 : decode cX7_paper 107 = .ok (.iconst 1, 1) := dk_4 (dk_at dksX7_paper_4 16 rfl rfl)
theorem dX7_paper_108 : decode cX7_paper 108 = .ok (.iadd, 1) := dk_96 (dk_at dksX7_paper_4 17 rfl rfl)
theorem dX7_paper_109 : decode cX7_paper 109 = .ok (.iastore, 1) := dk_79 (dk_at dksX7_paper_4 18 rfl rfl)
theorem dX7_paper_110 : decode cX7_paper 110 = .ok (.aload_n 0, 1) := dk_42 (dk_at dksX7_paper_4 19 rfl rfl)
theorem dX7_paper_111 : decode cX7_paper 111 = .ok (.aload_n 0, 1) := dk_42 (dk_at dksX7_paper_4 20 rfl rfl)
theorem dX7_paper_112 : decode cX7_paper 112 = .ok (.getfield 7, 3) := dk_180 0 7 (dk_at dksX7_paper_4 21 rfl rfl)
theorem dX7_paper_115 : decode cX7_paper 115 = .ok (.bipush 7, 2) := dk_16 7 (dk_at dksX7_paper_5 0 rfl rfl)
theorem dX7_paper_117 : decode cX7_paper 117 = .ok (.iaload, 1) := dk_46 (dk_at dksX7_paper_5 2 rfl rfl)
theorem dX7_paper_118 : decode cX7_paper 118 = .ok (.invokevirtual 125, 3) := dk_182 0 125 (dk_at dksX7_paper_5 3 rfl rfl)
theorem dX7_paper_121 : decode cX7_paper 121 = .ok (.ireturn, 1) := dk_172 (dk_at dksX7_paper_5 6 rfl rfl)
def dkwX7_count_6 : List UInt8 := [180, 0, 7, 16, 6, 46, 4, 100, 182, 0, 125, 172]
abbrev dktX7_count_6 : List UInt8 := dkwX7_count_6 ++ []
def dkwX7_count_5 : List UInt8 := [180, 0, 7, 21, 6, 7, 96, 21, 5, 79, 42, 180, 0, 7, 16, 6, 92, 46, 4, 96, 79, 42, 42]
abbrev dktX7_count_5 : List UInt8 := dkwX7_count_5 ++ dktX7_count_6
def dkwX7_count_4 : List UInt8 := [42, 180, 0, 7, 16, 6, 46, 104, 96, 54, 6, 42, 21, 6, 27, 28, 29, 21, 4, 182, 0, 151, 42]
abbrev dktX7_count_4 : List UInt8 := dkwX7_count_4 ++ dktX7_count_5
def dkwX7_count_3 : List UInt8 := [42, 180, 0, 7, 16, 6, 46, 17, 0, 200, 160, 0, 10, 42, 16, 251, 182, 0, 125, 172, 17, 15, 168, 8]
abbrev dktX7_count_3 : List UInt8 := dkwX7_count_3 ++ dktX7_count_4
def dkwX7_count_2 : List UInt8 := [154, 0, 9, 42, 2, 182, 0, 125, 172, 42, 27, 182, 1, 251, 154, 0, 10, 42, 16, 254, 182, 0, 125, 172]
abbrev dktX7_count_2 : List UInt8 := dkwX7_count_2 ++ dktX7_count_3
def dkwX7_count_1 : List UInt8 := [184, 0, 121, 153, 0, 24, 21, 4, 133, 9, 20, 2, 3, 184, 0, 121, 153, 0, 11, 21, 5, 184, 0, 159]
abbrev dktX7_count_1 : List UInt8 := dkwX7_count_1 ++ dktX7_count_2
