set_option maxRecDepth 100000
def dkwX0_box_0 : List UInt8 := [28, 3, 19, 1, 159, 184, 0, 127, 154, 0, 9, 42, 2, 182, 0, 131, 172, 42, 27, 182, 1, 160]
abbrev dktX0_box_0 : List UInt8 := dkwX0_box_0 ++ dktX0_box_1
theorem dksX0_box_0 : cX0_box.data.toList.drop 0 = dktX0_box_0 := by decide +kernel
theorem dksX0_box_1 : cX0_box.data.toList.drop 22 = dktX0_box_1 := dk_seg dksX0_box_0 22 rfl rfl
theorem dksX0_box_2 : cX0_box.data.toList.drop 45 = dktX0_box_2 := dk_seg dksX0_box_1 23 rfl rfl
theorem dksX0_box_3 : cX0_box.data.toList.drop 68 = dktX0_box_3 := dk_seg dksX0_box_2 23 rfl rfl
theorem dksX0_box_4 : cX0_box.data.toList.drop 92 = dktX0_box_4 := dk_seg dksX0_box_3 24 rfl rfl
theorem dX0_box_0 : decode cX0_box 0 = .ok (.iload_n 2, 1) := dk_28 (dk_at dksX0_box_0 0 rfl rfl)
theorem dX0_box_1 : decode cX0_box 1 = .ok (.iconst 0, 1) := dk_3 (dk_at dksX0_box_0 1 rfl rfl)
theorem dX0_box_2 : decode cX0_box 2 = .ok (.ldc_w 415, 3) := dk_19 1 159 (dk_at dksX0_box_0 2 rfl rfl)
theorem dX0_box_5 : decode cX0_box 5 = .ok (.invokestatic 127, 3) := dk_184 0 127 (dk_at dksX0_box_0 5 rfl rfl)
theorem dX0_box_8 : decode cX0_box 8 = .ok (.ifCond .ne 9, 3) := dk_154 0 9 (dk_at dksX0_box_0 8 rfl rfl)
theorem dX0_box_11 : decode cX0_box 11 = .ok (.aload_n 0, 1) := dk_42 (dk_at dksX0_box_0 11 rfl rfl)
theorem dX0_box_12 : decode cX0_box 12 = .ok (.iconst (-1), 1) := dk_2 (dk_at dksX0_box_0 12 rfl rfl)
theorem dX0_box_13 : decode cX0_box 13 = .ok (.invokevirtual 131, 3) := dk_182 0 131 (dk_at dksX0_box_0 13 rfl rfl)
theorem dX0_box_16 : decode cX0_box 16 = .ok (.ireturn, 1) := dk_172 (dk_at dksX0_box_0 16 rfl rfl)
theorem dX0_box_17 : decode cX0_box 17 = .ok (.aload_n 0, 1) := dk_42 (dk_at dksX0_box_0 17 rfl rfl)
theorem dX0_box_18 : decode cX0_box 18 = .ok (.iload_n 1, 1) := dk_27 (dk_at dksX0_box_0 18 rfl rfl)
theorem dX0_box_19 : decode cX0_box 19 = .ok (.invokevirtual 416, 3) := dk_182 1 160 (dk_at dksX0_box_0 19 rfl rfl)
theorem dX0_box_22 : decode cX0_box 22 = .ok (.ifCond .ne 10, 3) := dk_154 0 10 (dk_at dksX0_box_1 0 rfl rfl)
theorem dX0_box_25 : decode cX0_box 25 = .ok (.aload_n 0, 1) := dk_42 (dk_at dksX0_box_1 3 rfl rfl)
theorem dX0_box_26 : decode cX0_box 26 = .ok (.bipush (-2), 2) := dk_16 254 (dk_at dksX0_box_1 4 rfl rfl)
theorem dX0_box_28 : decode cX0_box 28 = .ok (.invokevirtual 131, 3) := dk_182 0 131 (dk_at dksX0_box_1 6 rfl rfl)
theorem dX0_box_31 : decode cX0_box 31 = .ok (.ireturn, 1) := dk_172 (dk_at dksX0_box_1 9 rfl rfl)
theorem dX0_box_32 : decode cX0_box 32 = .ok (.aload_n 0, 1) := dk_42 (dk_at dksX0_box_1 10 rfl rfl)
theorem dX0_box_33 : decode cX0_box 33 = .ok (.getfield 10, 3) := dk_180 0 10 (dk_at dksX0_box_1 11 rfl rfl)
theorem dX0_box_36 : decode cX0_box 36 = .ok (.getfield 157, 3) := dk_180 0 157 (dk_at dksX0_box_1 14 rfl rfl)
theorem dX0_box_39 : decode cX0_box 39 = .ok (.bipush 40, 2) := dk_16 40 (dk_at dksX0_box_1 17 rfl rfl)
theorem dX0_box_41 : decode cX0_box 41 = .ok (.if_icmp .ne 10, 3) := dk_160 0 10 (dk_at dksX0_box_1 19 rfl rfl)
theorem dX0_box_44 : decode cX0_box 44 = .ok (.aload_n 0, 1) := dk_42 (dk_at dksX0_box_1 22 rfl rfl)
theorem dX0_box_45 : decode cX0_box 45 = .ok (.bipush (-5), 2) := dk_16 251 (dk_at dksX0_box_2 0 rfl rfl)
theorem dX0_box_47 : decode cX0_box 47 = .ok (.invokevirtual 131, 3) := dk_182 0 131 (dk_at dksX0_box_2 2 rfl rfl)
theorem dX0_box_50 : decode cX0_box 50 = .ok (.ireturn, 1) := dk_172 (dk_at dksX0_box_2 5 rfl rfl)
theorem dX0_box_51 : decode cX0_box 51 = .ok (.aload_n 0, 1) := dk_42 (dk_at dksX0_box_2 6 rfl rfl)
theorem dX0_box_52 : decode cX0_box 52 = .ok (.getfield 10, 3) := dk_180 0 10 (dk_at dksX0_box_2 7 rfl rfl)
theorem dX0_box_55 : decode cX0_box 55 = .ok (.getfield 419, 3) := dk_180 1 163 (dk_at dksX0_box_2 10 rfl rfl)
theorem dX0_box_58 : decode cX0_box 58 = .ok (.aload_n 0, 1) := dk_42 (dk_at dksX0_box_2 13 rfl rfl)
theorem dX0_box_59 : decode cX0_box 59 = .ok (.getfield 10, 3) := dk_180 0 10 (dk_at dksX0_box_2 14 rfl rfl)
theorem dX0_box_62 : decode cX0_box 62 = .ok (.getfield 157, 3) := dk_180 0 157 (dk_at dksX0_box_2 17 rfl rfl)
theorem dX0_box_65 : decode cX0_box 65 = .ok (.iload_n 1, 1) := dk_27 (dk_at dksX0_box_2 20 rfl rfl)
theorem dX0_box_66 : decode cX0_box 66 = .ok (.iastore, 1) := dk_79 (dk_at dksX0_box_2 21 rfl rfl)
theorem dX0_box_67 : decode cX0_box 67 = .ok (.aload_n 0, 1) := dk_42 (dk_at dksX0_box_2 22 rfl rfl)
theorem dX0_box_68 : decode cX0_box 68 = .ok (.getfield 10, 3) := dk_180 0 10 (dk_at dksX0_box_3 0 rfl rfl)
theorem dX0_box_71 : decode cX0_box 71 = .ok (.getfield 422, 3) := dk_180 1 166 (dk_at dksX0_box_3 3 rfl rfl)
theorem dX0_box_74 : decode cX0_box 74 = .ok (.aload_n 0, 1) := dk_42 (dk_at dksX0_box_3 6 rfl rfl)
theorem dX0_box_75 : decode cX0_box 75 = .ok (.getfield 10, 3) := dk_180 0 10 (dk_at dksX0_box_3 7 rfl rfl)
theorem dX0_box_78 : decode cX0_box 78 = .ok (.getfield 157, 3) := dk_180 0 157 (dk_at dksX0_box_3 10 rfl rfl)
theorem dX0_box_81 : decode cX0_box 81 = .ok (.iload_n 2, 1) := dk_28 (dk_at dksX0_box_3 13 rfl rfl)
theorem dX0_box_82 : decode cX0_box 82 = .ok (.iastore, 1) := dk_79 (dk_at dksX0_box_3 14 rfl rfl)
theorem dX0_box_83 : decode cX0_box 83 = .ok (.aload_n 0, 1) := dk_42 (dk_at dksX0_box_3 15 rfl rfl)
theorem dX0_box_84 : decode cX0_box 84 = .ok (.getfield 10, 3) := dk_180 0 10 (dk_at dksX0_box_3 16 rfl rfl)
theorem dX0_box_87 : decode cX0_box 87 = .ok (.dup, 1) := dk_89 (dk_at dksX0_box_3 19 rfl rfl)
theorem dX0_box_88 : decode cX0_box 88 = .ok (.getfield 157, 3) := dk_180 0 157 (dk_at dksX0_box_3 20 rfl rfl)
theorem dX0_box_91 : decode cX0_box 91 = .ok (.iconst 1, 1) := dk_4 (dk_at dksX0_box_3 23 rfl rfl)
theorem dX0_box_92 : decode cX0_box 92 = .ok (.iadd, 1) := dk_96 (dk_at dksX0_box_4 0 rfl rfl)
theorem dX0_box_93 : decode cX0_box 93 = .ok (.putfield 157, 3) := dk_181 0 157 (dk_at dksX0_box_4 1 rfl rfl)
theorem dX0_box_96 : decode cX0_box 96 = .ok (.aload_n 0, 1) := dk_42 (dk_at dksX0_box_4 4 rfl rfl)
theorem dX0_box_97 : decode cX0_box 97 = .ok (.aload_n 0, 1) := dk_42 (dk_at dksX0_box_4 5 rfl rfl)
theorem dX0_box_98 : decode cX0_box 98 = .ok (.getfield 10, 3) := dk_180 0 10 (dk_at dksX0_box_4 6 rfl rfl)
theorem dX0_box_101 : decode cX0_box 101 = .ok (.getfield 157, 3) := dk_180 0 157 (dk_at dksX0_box_4 9 rfl rfl)
theorem dX0_box_104 : decode cX0_box 104 = .ok (.iconst 1, 1) := dk_4 (dk_at dksX0_box_4 12 rfl rfl)
theorem dX0_box_105 : decode cX0_box 105 = .ok (.isub, 1) := dk_100 (dk_at dksX0_box_4 13 rfl rfl)
theorem dX0_box_106 : decode cX0_box 106 = .ok (.invokevirtual 138, 3) := dk_182 0 138 (dk_at dksX0_box_4 14 rfl rfl)
theorem dX0_box_109 : decode cX0_box 109 = .ok (.ireturn, 1) := dk_172 (dk_at dksX0_box_4 17 rfl rfl)
def dkwX0_isBooth_0 : List UInt8 := [27, 3, 42, 180, 0, 10, 180, 0, 154, 4, 100, 184, 0, 127, 172]
abbrev dktX0_isBooth_0 : List UInt8 := dkwX0_isBooth_0 ++ []
theorem dksX0_isBooth_0 : cX0_isBooth.data.toList.drop 0 = dktX0_isBooth_0 := by decide +kernel
theorem dX0_isBooth_0 : decode cX0_isBooth 0 = .ok (.iload_n 1, 1) := dk_27 (dk_at dksX0_isBooth_0 0 rfl rfl)
theorem dX0_isBooth_1 : decode cX0_isBooth 1 = .ok (.iconst 0, 1) := dk_3 (dk_at dksX0_isBooth_0 1 rfl rfl)
theorem dX0_isBooth_2 : decode cX0_isBooth 2 = .ok (.aload_n 0, 1) := dk_42 (dk_at dksX0_isBooth_0 2 rfl rfl)
theorem dX0_isBooth_3 : decode cX0_isBooth 3 = .ok (.getfield 10, 3) := dk_180 0 10 (dk_at dksX0_isBooth_0 3 rfl rfl)
theorem dX0_isBooth_6 : decode cX0_isBooth 6 = .ok (.getfield 154, 3) := dk_180 0 154 (dk_at dksX0_isBooth_0 6 rfl rfl)
theorem dX0_isBooth_9 : decode cX0_isBooth 9 = .ok (.iconst 1, 1) := dk_4 (dk_at dksX0_isBooth_0 9 rfl rfl)
theorem dX0_isBooth_10 : decode cX0_isBooth 10 = .ok (.isub, 1) := dk_100 (dk_at dksX0_isBooth_0 10 rfl rfl)
theorem dX0_isBooth_11 : decode cX0_isBooth 11 = .ok (.invokestatic 127, 3) := dk_184 0 127 (dk_at dksX0_isBooth_0 11 rfl rfl)
theorem dX0_isBooth_14 : decode cX0_isBooth 14 = .ok (.ireturn, 1) := dk_172 (dk_at dksX0_isBooth_0 14 rfl rfl)
def dkwX0_hand_5 : List UInt8 := [182, 0, 148, 182, 0, 138, 172]
abbrev dktX0_hand_5 : List UInt8 := dkwX0_hand_5 ++ []
def dkwX0_hand_4 : List UInt8 := [27, 28, 29, 21, 4, 21, 5, 183, 1, 25, 182, 0, 178, 87, 42, 42, 180, 0, 10, 180, 1, 172]
abbrev dktX0_hand_4 : List UInt8 := dkwX0_hand_4 ++ dktX0_hand_5
def dkwX0_hand_3 : List UInt8 := [17, 0, 200, 160, 0, 10, 42, 16, 251, 182, 0, 131, 172, 42, 180, 0, 10, 180, 1, 172, 187, 1, 23, 89]
abbrev dktX0_hand_3 : List UInt8 := dkwX0_hand_3 ++ dktX0_hand_4
def dkwX0_hand_2 : List UInt8 := [182, 1, 169, 154, 0, 10, 42, 16, 254, 182, 0, 131, 172, 42, 180, 0, 10, 180, 1, 172, 182, 0, 148]
abbrev dktX0_hand_2 : List UInt8 := dkwX0_hand_2 ++ dktX0_hand_3
def dkwX0_hand_1 : List UInt8 := [184, 0, 127, 153, 0, 11, 21, 5, 184, 0, 201, 154, 0, 9, 42, 2, 182, 0, 131, 172, 42, 27]
abbrev dktX0_hand_1 : List UInt8 := dkwX0_hand_1 ++ dktX0_hand_2
def dkwX0_hand_0 : List UInt8 := [28, 3, 16, 19, 184, 0, 127, 153, 0, 30, 29, 184, 0, 201, 153, 0, 23, 21, 4, 3, 19, 1, 159]
abbrev dktX0_hand_0 : List UInt8 := dkwX0_hand_0 ++ dktX0_hand_1
theorem dksX0_hand_0 : cX0_hand.data.toList.drop 0 = dktX0_hand_0 := by decide +kernel
theorem dksX0_hand_1 : cX0_hand.data.toList.drop 23 = dktX0_hand_1 := dk_seg dksX0_hand_0 23 rfl rfl
theorem dksX0_hand_2 : cX0_hand.data.toList.drop 45 = dktX0_hand_2 := dk_seg dksX0_hand_1 22 rfl rfl
theorem dksX0_hand_3 : cX0_hand.data.toList.drop 68 = dktX0_hand_3 := dk_seg dksX0_hand_2 23 rfl rfl
theorem dksX0_hand_4 : cX0_hand.data.toList.drop 92 = dktX0_hand_4 := dk_seg dksX0_hand_3 24 rfl rfl
theorem dksX0_hand_5 : cX0_hand.data.toList.drop 114 = dktX0_hand_5 := dk_seg dksX0_hand_4 22 rfl rfl
theorem dX0_hand_0 : decode cX0_hand 0 = .ok (.iload_n 2, 1) := dk_28 (dk_at dksX0_hand_0 0 rfl rfl)
theorem dX0_hand_1 : decode cX0_hand 1 = .ok (.iconst 0, 1) := dk_3 (dk_at dksX0_hand_0 1 rfl rfl)
theorem dX0_hand_2 : decode cX0_hand 2 = .ok (.bipush 19, 2) := dk_16 19 (dk_at dksX0_hand_0 2 rfl rfl)
theorem dX0_hand_4 : decode cX0_hand 4 = .ok (.invokestatic 127, 3) := dk_184 0 127 (dk_at dksX0_hand_0 4 rfl rfl)
theorem dX0_hand_7 : decode cX0_hand 7 = .ok (.ifCond .eq 30, 3) := dk_153 0 30 (dk_at dksX0_hand_0 7 rfl rfl)
theorem dX0_hand_10 : decode cX0_hand 10 = .ok (.iload_n 3, 1) := dk_29 (dk_at dksX0_hand_0 10 rfl rfl)
theorem dX0_hand_11 : decode cX0_hand 11 = .ok (.invokestatic 201, 3) := dk_184 0 201 (dk_at dksX0_hand_0 11 rfl rfl)
theorem dX0_hand_14 : decode cX0_hand 14 = .ok (.ifCond .eq 23, 3) := dk_153 0 23 (dk_at dksX0_hand_0 14 rfl rfl)
theorem dX0_hand_17 : decode cX0_hand 17 = .ok (.iload 4, 2) := dk_21 4 (dk_at dksX0_hand_0 17 rfl rfl)
theorem dX0_hand_19 : decode cX0_hand 19 = .ok (.iconst 0, 1) := dk_3 (dk_at dksX0_hand_0 19 rfl rfl)
theorem dX0_hand_20 : decode cX0_hand 20 = .ok (.ldc_w 415, 3) := dk_19 1 159 (dk_at dksX0_hand_0 20 rfl rfl)
theorem dX0_hand_23 : decode cX0_hand 23 = .ok (.invokestatic 127, 3) := dk_184 0 127 (dk_at dksX0_hand_1 0 rfl rfl)
theorem dX0_hand_26 : decode cX0_hand 26 = .ok (.ifCond .eq 11, 3) := dk_153 0 11 (dk_at dksX0_hand_1 3 rfl rfl)
theorem dX0_hand_29 : decode cX0_hand 29 = .ok (.iload 5, 2) := dk_21 5 (dk_at dksX0_hand_1 6 rfl rfl)
theorem dX0_hand_31 : decode cX0_hand 31 = .ok (.invokestatic 201, 3) := dk_184 0 201 (dk_at dksX0_hand_1 8 rfl rfl)
theorem dX0_hand_34 : decode cX0_hand 34 = .ok (.ifCond .ne 9, 3) := dk_154 0 9 (dk_at dksX0_hand_1 11 rfl rfl)
theorem dX0_hand_37 : decode cX0_hand 37 = .ok (.aload_n 0, 1) := dk_42 (dk_at dksX0_hand_1 14 rfl rfl)
theorem dX0_hand_38 : decode cX0_hand 38 = .ok (.iconst (-1), 1) := dk_2 (dk_at dksX0_hand_1 15 rfl rfl)
theorem dX0_hand_39 : decode cX0_hand 39 = .ok (.invokevirtual 131, 3) := dk_182 0 131 (dk_at dksX0_hand_1 16 rfl rfl)
theorem dX0_hand_42 : decode cX0_hand 42 = .ok (.ireturn, 1) := dk_172 (dk_at dksX0_hand_1 19 rfl rfl)
theorem dX0_hand_43 : decode cX0_hand 43 = .ok (.aload_n 0, 1) := dk_42 (dk_at dksX0_hand_1 20 rfl rfl)
theorem dX0_hand_44 : decode cX0_hand 44 = .ok (.iload_n 1, 1) := dk_27 (dk_at dksX0_hand_1 21 rfl rfl)
theorem dX0_hand_45 : decode cX0_hand 45 = .ok (.invokevirtual 425, 3) := dk_182 1 169 (dk_at dksX0_hand_2 0 rfl rfl)
theorem dX0_hand_48 : decode cX0_hand 48 = .ok (.ifCond .ne 10, 3) := dk_154 0 10 (dk_at dksX0_hand_2 3 rfl rfl)
theorem dX0_hand_51 : decode cX0_hand 51 = .ok (.aload_n 0, 1) := dk_42 (dk_at dksX0_hand_2 6 rfl rfl)
theorem dX0_hand_52 : decode cX0_hand 52 = .ok (.bipush (-2), 2) := dk_16 254 (dk_at dksX0_hand_2 7 rfl rfl)
theorem dX0_hand_54 : decode cX0_hand 54 = .ok (.invokevirtual 131, 3) := dk_182 0 131 (dk_at dksX0_hand_2 9 rfl rfl)
theorem dX0_hand_57 : decode cX0_hand 57 = .ok (.ireturn, 1) := dk_172 (dk_at dksX0_hand_2 12 rfl rfl)
theorem dX0_hand_58 : decode cX0_hand 58 = .ok (.aload_n 0, 1) := dk_42 (dk_at dksX0_hand_2 13 rfl rfl)
theorem dX0_hand_59 : decode cX0_hand 59 = .ok (.getfield 10, 3) := dk_180 0 10 (dk_at dksX0_hand_2 14 rfl rfl)
theorem dX0_hand_62 : decode cX0_hand 62 = .ok (.getfield 428, 3) := dk_180 1 172 (dk_at dksX0_hand_2 17 rfl rfl)
theorem dX0_hand_65 : decode cX0_hand 65 = .ok (.invokevirtual 148, 3) := dk_182 0 148 (dk_at dksX0_hand_2 20 rfl rfl)
theorem dX0_hand_68 : decode cX0_hand 68 = .ok (.sipush 200, 3) := dk_17 0 200 (dk_at dksX0_hand_3 0 rfl rfl)
theorem dX0_hand_71 : decode cX0_hand 71 = .ok (.if_icmp .ne 10, 3) := dk_160 0 10 (dk_at dksX0_hand_3 3 rfl rfl)
theorem dX0_hand_74 : decode cX0_hand 74 = .ok (.aload_n 0, 1) := dk_42 (dk_at dksX0_hand_3 6 rfl rfl)
theorem dX0_hand_75 : decode cX0_hand 75 = .ok (.bipush (-5), 2) := dk_16 251 (dk_at dksX0_hand_3 7 rfl rfl)
theorem dX0_hand_77 : decode cX0_hand 77 = .ok (.invokevirtual 131, 3) := dk_182 0 131 (dk_at dksX0_hand_3 9 rfl rfl)
theorem dX0_hand_80 : decode cX0_hand 80 = .ok (.ireturn, 1) := dk_172 (dk_at dksX0_hand_3 12 rfl rfl)
theorem dX0_hand_81 : decode cX0_hand 81 = .ok (.aload_n 0, 1) := dk_42 (dk_at dksX0_hand_3 13 rfl rfl)
theorem dX0_hand_82 : decode cX0_hand 82 = .ok (.getfield 10, 3) := dk_180 0 10 (dk_at dksX0_hand_3 14 rfl rfl)
theorem dX0_hand_85 : decode cX0_hand 85 = .ok (.getfield 428, 3) := dk_180 1 172 (dk_at dksX0_hand_3 17 rfl rfl)
theorem dX0_hand_88 : decode cX0_hand 88 = .ok (.new 279, 3) := dk_187 1 23 (dk_at dksX0_hand_3 20 rfl rfl)
theorem dX0_hand_91 : decode cX0_hand 91 = .ok (.dup, 1) := dk_89 (dk_at dksX0_hand_3 23 rfl rfl)
theorem dX0_hand_92 : decode cX0_hand 92 = .ok (.iload_n 1, 1) := dk_27 (dk_at dksX0_hand_4 0 rfl rfl)
theorem dX0_hand_93 : decode cX0_hand 93 = .ok (.iload_n 2, 1) := dk_28 (dk_at dksX0_hand_4 1 rfl rfl)
theorem dX0_hand_94 : decode cX0_hand 94 = .ok (.iload_n 3, 1) := dk_29 (dk_at dksX0_hand_4 2 rfl rfl)
theorem dX0_hand_95 : decode cX0_hand 95 = .ok (.iload 4, 2) := dk_21 4 (dk_at dksX0_hand_4 3 rfl rfl)
theorem dX0_hand_97 : decode cX0_hand 97 = .ok (.iload 5, 2) := dk_21 5 (dk_at dksX0_hand_4 5 rfl rfl)
theorem dX0_hand_99 : decode cX0_hand 99 = .ok (.invokespecial 281, 3) := dk_183 1 25 (dk_at dksX0_hand_4 7 rfl rfl)
theorem dX0_hand_102 : decode cX0_hand 102 = .ok (.invokevirtual 178, 3) := dk_182 0 178 (dk_at dksX0_hand_4 10 rfl rfl)
theorem dX0_hand_105 : decode cX0_hand 105 = .ok (.pop, 1) := dk_87 (dk_at dksX0_hand_4 13 rfl rfl)
theorem dX0_hand_106 : decode cX0_hand 106 = .ok (.aload_n 0, 1) := dk_42 (dk_at dksX0_hand_4 14 rfl rfl)
theorem dX0_hand_107 : decode cX0_hand 107 = .ok (.aload_n 0, 1) := dk_42 (dk_at dksX0_hand_4 15 rfl rfl)
theorem dX0_hand_108 : decode cX0_hand 108 = .ok (.getfield 10, 3) := dk_180 0 10 (dk_at dksX0_hand_4 16 rfl rfl)
theorem dX0_hand_111 : decode cX0_hand 111 = .ok (.getfield 428, 3) := dk_180 1 172 (dk_at dksX0_hand_4 19 rfl rfl)
theorem dX0_hand_114 : decode cX0_hand 114 = .ok (.invokevirtual 148, 3) := dk_182 0 148 (dk_at dksX0_hand_5 0 rfl rfl)
theorem dX0_hand_117 : decode cX0_hand 117 = .ok (.invokevirtual 138, 3) := dk_182 0 138 (dk_at dksX0_hand_5 3 rfl rfl)
theorem dX0_hand_120 : decode cX0_hand 120 = .ok (.ireturn, 1) := dk_172 (dk_at dksX0_hand_5 6 rfl rfl)
def dkwX0_isBox_0 : List UInt8 := [27, 3, 42, 180, 0, 10, 180, 0, 157, 4, 100, 184, 0, 127, 172]
abbrev dktX0_isBox_0 : List UInt8 := dkwX0_isBox_0 ++ []
theorem dksX0_isBox_0 : cX0_isBox.data.toList.drop 0 = dktX0_isBox_0 := by decide +kernel
theorem dX0_isBox_0 : decode cX0_isBox 0 = .ok (.iload_n 1, 1) := dk_27 (dk_at dksX0_isBox_0 0 rfl rfl)
theorem dX0_isBox_1 : decode cX0_isBox 1 = .ok (.iconst 0, 1) := dk_3 (dk_at dksX0_isBox_0 1 rfl rfl)
theorem dX0_isBox_2 : decode cX0_isBox 2 = .ok (.aload_n 0, 1) := dk_42 (dk_at dksX0_isBox_0 2 rfl rfl)
theorem dX0_isBox_3 : decode cX0_isBox 3 = .ok (.getfield 10, 3) := dk_180 0 10 (dk_at dksX0_isBox_0 3 rfl rfl)
theorem dX0_isBox_6 : decode cX0_isBox 6 = .ok (.getfield 157, 3) := dk_180 0 157 (dk_at dksX0_isBox_0 6 rfl rfl)
theorem dX0_isBox_9 : decode cX0_isBox 9 = .ok (.iconst 1, 1) := dk_4 (dk_at dksX0_isBox_0 9 rfl rfl)
theorem dX0_isBox_10 : decode cX0_isBox 10 = .ok (.isub, 1) := dk_100 (dk_at dksX0_isBox_0 10 rfl rfl)
theorem dX0_isBox_11 : decode cX0_isBox 11 = .ok (.invokestatic 127, 3) := dk_184 0 127 (dk_at dksX0_isBox_0 11 rfl rfl)
theorem dX0_isBox_14 : decode cX0_isBox 14 = .ok (.ireturn, 1) := dk_172 (dk_at dksX0_isBox_0 14 rfl rfl)
def dkwX0_held_2 : List UInt8 := [172]
abbrev dktX0_held_2 : List UInt8 := dkwX0_held_2 ++ []
def dkwX0_held_1 : List UInt8 := [42, 27, 28, 29, 2, 182, 1, 181, 58, 4, 25, 4, 199, 0, 7, 2, 167, 0, 8, 25, 4, 180, 1, 29]
abbrev dktX0_held_1 : List UInt8 := dkwX0_held_1 ++ dktX0_held_2
def dkwX0_held_0 : List UInt8 := [42, 27, 182, 1, 169, 153, 0, 17, 28, 184, 0, 201, 153, 0, 10, 29, 184, 0, 201, 154, 0, 5, 2, 172]
abbrev dktX0_held_0 : List UInt8 := dkwX0_held_0 ++ dktX0_held_1
theorem dksX0_held_0 : cX0_held.data.toList.drop 0 = dktX0_held_0 := by decide +kernel
theorem dksX0_held_1 : cX0_held.data.toList.drop 24 = dktX0_held_1 := dk_seg dksX0_held_0 24 rfl rfl
theorem dksX0_held_2 : cX0_held.data.toList.drop 48 = dktX0_held_2 := dk_seg dksX0_held_1 24 rfl rfl
theorem dX0_held_0 : decode cX0_held 0 = .ok (.aload_n 0, 1) := dk_42 (dk_at dksX0_held_0 0 rfl rfl)
theorem dX0_held_1 : decode cX0_held 1 = .ok (.iload_n 1, 1) := dk_27 (dk_at dksX0_held_0 1 rfl rfl)
theorem dX0_held_2 : decode cX0_held 2 = .ok (.invokevirtual 425, 3) := dk_182 1 169 (dk_at dksX0_held_0 2 rfl rfl)
theorem dX0_held_5 : decode cX0_held 5 = .ok (.ifCond .eq 17, 3) := dk_153 0 17 (dk_at dksX0_held_0 5 rfl rfl)
theorem dX0_held_8 : decode cX0_held 8 = .ok (.iload_n 2, 1) := dk_28 (dk_at dksX0_held_0 8 rfl rfl)
theorem dX0_held_9 : decode cX0_held 9 = .ok (.invokestatic 201, 3) := dk_184 0 201 (dk_at dksX0_held_0 9 rfl rfl)
theorem dX0_held_12 : decode cX0_held 12 = .ok (.ifCond .eq 10, 3) := dk_153 0 10 (dk_at dksX0_held_0 12 rfl rfl)
theorem dX0_held_15 : decode cX0_held 15 = .ok (.iload_n 3, 1) := dk_29 (dk_at dksX0_held_0 15 rfl rfl)
theorem dX0_held_16 : decode cX0_held 16 = .ok (.invokestatic 201, 3) := dk_184 0 201 (dk_at dksX0_held_0 16 rfl rfl)
theorem dX0_held_19 : decode cX0_held 19 = .ok (.ifCond .ne 5, 3) := dk_154 0 5 (dk_at dksX0_held_0 19 rfl rfl)
theorem dX0_held_22 : decode cX0_held 22 = .ok (.iconst (-1), 1) := dk_2 (dk_at dksX0_held_0 22 rfl rfl)
theorem dX0_held_23 : decode cX0_held 23 = .ok (.ireturn, 1) := dk_172 (dk_at dksX0_held_0 23 rfl rfl)
theorem dX0_held_24 : decode cX0_held 24 = .ok (.aload_n 0, 1) := dk_42 (dk_at dksX0_held_1 0 rfl rfl)
theorem dX0_held_25 : decode cX0_held 25 = .ok (.iload_n 1, 1) := dk_27 (dk_at dksX0_held_1 1 rfl rfl)
theorem dX0_held_26 : decode cX0_held 26 = .ok (.iload_n 2, 1) := dk_28 (dk_at dksX0_held_1 2 rfl rfl)
theorem dX0_held_27 : decode cX0_held 27 = .ok (.iload_n 3, 1) := dk_29 (dk_at dksX0_held_1 3 rfl rfl)
theorem dX0_held_28 : decode cX0_held 28 = .ok (.iconst (-1), 1) := dk_2 (dk_at dksX0_held_1 4 rfl rfl)
theorem dX0_held_29 : decode cX0_held 29 = .ok (.invokevirtual 437, 3) := dk_182 1 181 (dk_at dksX0_held_1 5 rfl rfl)
theorem dX0_held_32 : decode cX0_held 32 = .ok (.astore 4, 2) := dk_58 4 (dk_at dksX0_held_1 8 rfl rfl)
theorem dX0_held_34 : decode cX0_held 34 = .ok (.aload 4, 2) := dk_25 4 (dk_at dksX0_held_1 10 rfl rfl)
theorem dX0_held_36 : decode cX0_held 36 = .ok (.ifnonnull 7, 3) := dk_199 0 7 (dk_at dksX0_held_1 12 rfl rfl)
theorem dX0_held_39 : decode cX0_held 39 = .ok (.iconst (-1), 1) := dk_2 (dk_at dksX0_held_1 15 rfl rfl)
theorem dX0_held_40 : decode cX0_held 40 = .ok (.goto 8, 3) := dk_167 0 8 (dk_at dksX0_held_1 16 rfl rfl)
theorem dX0_held_43 : decode cX0_held 43 = .ok (.aload 4, 2) := dk_25 4 (dk_at dksX0_held_1 19 rfl rfl)
theorem dX0_held_45 : decode cX0_held 45 = .ok (.getfield 285, 3) := dk_180 1 29 (dk_at dksX0_held_1 21 rfl rfl)
theorem dX0_held_48 : decode cX0_held 48 = .ok (.ireturn, 1) := dk_172 (dk_at dksX0_held_2 0 rfl rfl)
def dkwX0_handed_6 : List UInt8 := [180, 1, 175, 161, 0, 7, 25, 8, 58, 5, 132, 7, 1, 167, 255, 142, 25, 5, 176]
abbrev dktX0_handed_6 : List UInt8 := dkwX0_handed_6 ++ []
def dkwX0_handed_5 : List UInt8 := [21, 7, 21, 4, 161, 0, 6, 167, 0, 25, 25, 5, 198, 0, 16, 25, 8, 180, 1, 175, 25, 5]
abbrev dktX0_handed_5 : List UInt8 := dkwX0_handed_5 ++ dktX0_handed_6
def dkwX0_handed_4 : List UInt8 := [163, 0, 55, 25, 8, 180, 1, 175, 21, 6, 163, 0, 45, 25, 8, 180, 1, 175, 21, 6, 160, 0, 13]
abbrev dktX0_handed_4 : List UInt8 := dkwX0_handed_4 ++ dktX0_handed_5
def dkwX0_handed_3 : List UInt8 := [25, 8, 180, 1, 26, 27, 160, 0, 73, 25, 8, 180, 1, 178, 29, 163, 0, 64, 25, 8, 180, 1, 175, 28]
abbrev dktX0_handed_3 : List UInt8 := dkwX0_handed_3 ++ dktX0_handed_4
def dkwX0_handed_2 : List UInt8 := [182, 0, 148, 162, 0, 105, 42, 180, 0, 10, 180, 1, 172, 21, 7, 182, 0, 232, 192, 1, 23, 58, 8]
abbrev dktX0_handed_2 : List UInt8 := dkwX0_handed_2 ++ dktX0_handed_3
def dkwX0_handed_1 : List UInt8 := [182, 0, 232, 192, 1, 23, 180, 1, 175, 54, 6, 3, 54, 7, 21, 7, 42, 180, 0, 10, 180, 1, 172]
abbrev dktX0_handed_1 : List UInt8 := dkwX0_handed_1 ++ dktX0_handed_2
def dkwX0_handed_0 : List UInt8 := [1, 58, 5, 21, 4, 2, 160, 0, 9, 17, 1, 144, 167, 0, 21, 42, 180, 0, 10, 180, 1, 172, 21, 4]
abbrev dktX0_handed_0 : List UInt8 := dkwX0_handed_0 ++ dktX0_handed_1
theorem dksX0_handed_0 : cX0_handed.data.toList.drop 0 = dktX0_handed_0 := by decide +kernel
theorem dksX0_handed_1 : cX0_handed.data.toList.drop 24 = dktX0_handed_1 := dk_seg dksX0_handed_0 24 rfl rfl
theorem dksX0_handed_2 : cX0_handed.data.toList.drop 47 = dktX0_handed_2 := dk_seg dksX0_handed_1 23 rfl rfl
theorem dksX0_handed_3 : cX0_handed.data.toList.drop 70 = dktX0_handed_3 := dk_seg dksX0_handed_2 23 rfl rfl
theorem dksX0_handed_4 : cX0_handed.data.toList.drop 94 = dktX0_handed_4 := dk_seg dksX0_handed_3 24 rfl rfl
theorem dksX0_handed_5 : cX0_handed.data.toList.drop 117 = dktX0_handed_5 := dk_seg dksX0_handed_4 23 rfl rfl
theorem dksX0_handed_6 : cX0_handed.data.toList.drop 139 = dktX0_handed_6 := dk_seg dksX0_handed_5 22 rfl rfl
theorem dX0_handed_0 : decode cX0_handed 0 = .ok (.aconst_null, 1) := dk_1 (dk_at dksX0_handed_0 0 rfl rfl)
theorem dX0_handed_1 : decode cX0_handed 1 = .ok (.astore 5, 2) := dk_58 5 (dk_at dksX0_handed_0 1 rfl rfl)
theorem dX0_handed_3 : decode cX0_handed 3 = .ok (.iload 4, 2) := dk_21 4 (dk_at dksX0_handed_0 3 rfl rfl)
theorem dX0_handed_5 : decode cX0_handed 5 = .ok (.iconst (-1), 1) := dk_2 (dk_at dksX0_handed_0 5 rfl rfl)
theorem dX0_handed_6 : decode cX0_handed 6 = .ok (.if_icmp .ne 9, 3) := dk_160 0 9 (dk_at dksX0_handed_0 6 rfl rfl)
theorem dX0_handed_9 : decode cX0_handed 9 = .ok (.sipush 400, 3) := dk_17 1 144 (dk_at dksX0_handed_0 9 rfl rfl)
theorem dX0_handed_12 : decode cX0_handed 12 = .ok (.goto 21, 3) := dk_167 0 21 (dk_at dksX0_handed_0 12 rfl rfl)
theorem dX0_handed_15 : decode cX0_handed 15 = .ok (.aload_n 0, 1) := dk_42 (dk_at dksX0_handed_0 15 rfl rfl)
theorem dX0_handed_16 : decode cX0_handed 16 = .ok (.getfield 10, 3) := dk_180 0 10 (dk_at dksX0_handed_0 16 rfl rfl)
theorem dX0_handed_19 : decode cX0_handed 19 = .ok (.getfield 428, 3) := dk_180 1 172 (dk_at dksX0_handed_0 19 rfl rfl)
theorem dX0_handed_22 : decode cX0_handed 22 = .ok (.iload 4, 2) := dk_21 4 (dk_at dksX0_handed_0 22 rfl rfl)
theorem dX0_handed_24 : decode cX0_handed 24 = .ok (.invokevirtual 232, 3) := dk_182 0 232 (dk_at dksX0_handed_1 0 rfl rfl)
theorem dX0_handed_27 : decode cX0_handed 27 = .ok (.checkcast 279, 3) := dk_192 1 23 (dk_at dksX0_handed_1 3 rfl rfl)
theorem dX0_handed_30 : decode cX0_handed 30 = .ok (.getfield 431, 3) := dk_180 1 175 (dk_at dksX0_handed_1 6 rfl rfl)
theorem dX0_handed_33 : decode cX0_handed 33 = .ok (.istore 6, 2) := dk_54 6 (dk_at dksX0_handed_1 9 rfl rfl)
theorem dX0_handed_35 : decode cX0_handed 35 = .ok (.iconst 0, 1) := dk_3 (dk_at dksX0_handed_1 11 rfl rfl)
theorem dX0_handed_36 : decode cX0_handed 36 = .ok (.istore 7, 2) := dk_54 7 (dk_at dksX0_handed_1 12 rfl rfl)
theorem dX0_handed_38 : decode cX0_handed 38 = .ok (.iload 7, 2) := dk_21 7 (dk_at dksX0_handed_1 14 rfl rfl)
theorem dX0_handed_40 : decode cX0_handed 40 = .ok (.aload_n 0, 1) := dk_42 (dk_at dksX0_handed_1 16 rfl rfl)
theorem dX0_handed_41 : decode cX0_handed 41 = .ok (.getfield 10, 3) := dk_180 0 10 (dk_at dksX0_handed_1 17 rfl rfl)
theorem dX0_handed_44 : decode cX0_handed 44 = .ok (.getfield 428, 3) := dk_180 1 172 (dk_at dksX0_handed_1 20 rfl rfl)
theorem dX0_handed_47 : decode cX0_handed 47 = .ok (.invokevirtual 148, 3) := dk_182 0 148 (dk_at dksX0_handed_2 0 rfl rfl)
theorem dX0_handed_50 : decode cX0_handed 50 = .ok (.if_icmp .ge 105, 3) := dk_162 0 105 (dk_at dksX0_handed_2 3 rfl rfl)
theorem dX0_handed_53 : decode cX0_handed 53 = .ok (.aload_n 0, 1) := dk_42 (dk_at dksX0_handed_2 6 rfl rfl)
theorem dX0_handed_54 : decode cX0_handed 54 = .ok (.getfield 10, 3) := dk_180 0 10 (dk_at dksX0_handed_2 7 rfl rfl)
theorem dX0_handed_57 : decode cX0_handed 57 = .ok (.getfield 428, 3) := dk_180 1 172 (dk_at dksX0_handed_2 10 rfl rfl)
theorem dX0_handed_60 : decode cX0_handed 60 = .ok (.iload 7, 2) := dk_21 7 (dk_at dksX0_handed_2 13 rfl rfl)
theorem dX0_handed_62 : decode cX0_handed 62 = .ok (.invokevirtual 232, 3) := dk_182 0 232 (dk_at dksX0_handed_2 15 rfl rfl)
theorem dX0_handed_65 : decode cX0_handed 65 = .ok (.checkcast 279, 3) := dk_192 1 23 (dk_at dksX0_handed_2 18 rfl rfl)
theorem dX0_handed_68 : decode cX0_handed 68 = .ok (.astore 8, 2) := dk_58 8 (dk_at dksX0_handed_2 21 rfl rfl)
theorem dX0_handed_70 : decode cX0_handed 70 = .ok (.aload 8, 2) := dk_25 8 (dk_at dksX0_handed_3 0 rfl rfl)
theorem dX0_handed_72 : decode cX0_handed 72 = .ok (.getfield 282, 3) := dk_180 1 26 (dk_at dksX0_handed_3 2 rfl rfl)
theorem dX0_handed_75 : decode cX0_handed 75 = .ok (.iload_n 1, 1) := dk_27 (dk_at dksX0_handed_3 5 rfl rfl)
theorem dX0_handed_76 : decode cX0_handed 76 = .ok (.if_icmp .ne 73, 3) := dk_160 0 73 (dk_at dksX0_handed_3 6 rfl rfl)
theorem dX0_handed_79 : decode cX0_handed 79 = .ok (.aload 8, 2) := dk_25 8 (dk_at dksX0_handed_3 9 rfl rfl)
theorem dX0_handed_81 : decode cX0_handed 81 = .ok (.getfield 434, 3) := dk_180 1 178 (dk_at dksX0_handed_3 11 rfl rfl)
theorem dX0_handed_84 : decode cX0_handed 84 = .ok (.iload_n 3, 1) := dk_29 (dk_at dksX0_handed_3 14 rfl rfl)
theorem dX0_handed_85 : decode cX0_handed 85 = .ok (.if_icmp .gt 64, 3) := dk_163 0 64 (dk_at dksX0_handed_3 15 rfl rfl)
theorem dX0_handed_88 : decode cX0_handed 88 = .ok (.aload 8, 2) := dk_25 8 (dk_at dksX0_handed_3 18 rfl rfl)
theorem dX0_handed_90 : decode cX0_handed 90 = .ok (.getfield 431, 3) := dk_180 1 175 (dk_at dksX0_handed_3 20 rfl rfl)
theorem dX0_handed_93 : decode cX0_handed 93 = .ok (.iload_n 2, 1) := dk_28 (dk_at dksX0_handed_3 23 rfl rfl)
theorem dX0_handed_94 : decode cX0_handed 94 = .ok (.if_icmp .gt 55, 3) := dk_163 0 55 (dk_at dksX0_handed_4 0 rfl rfl)
theorem dX0_handed_97 : decode cX0_handed 97 = .ok (.aload 8, 2) := dk_25 8 (dk_at dksX0_handed_4 3 rfl rfl)
theorem dX0_handed_99 : decode cX0_handed 99 = .ok (.getfield 431, 3) := dk_180 1 175 (dk_at dksX0_handed_4 5 rfl rfl)
theorem dX0_handed_102 : decode cX0_handed 102 = .ok (.iload 6, 2) := dk_21 6 (dk_at dksX0_handed_4 8 rfl rfl)
theorem dX0_handed_104 : decode cX0_handed 104 = .ok (.if_icmp .gt 45, 3) := dk_163 0 45 (dk_at dksX0_handed_4 10 rfl rfl)
theorem dX0_handed_107 : decode cX0_handed 107 = .ok (.aload 8, 2) := dk_25 8 (dk_at dksX0_handed_4 13 rfl rfl)
theorem dX0_handed_109 : decode cX0_handed 109 = .ok (.getfield 431, 3) := dk_180 1 175 (dk_at dksX0_handed_4 15 rfl rfl)
theorem dX0_handed_112 : decode cX0_handed 112 = .ok (.iload 6, 2) := dk_21 6 (dk_at dksX0_handed_4 18 rfl rfl)
theorem dX0_handed_114 : decode cX0_handed 114 = .ok (.if_icmp .ne 13, 3) := dk_160 0 13 (dk_at dksX0_handed_4 20 rfl rfl)
theorem dX0_handed_117 : decode cX0_handed 117 = .ok (.iload 7, 2) := dk_21 7 (dk_at dksX0_handed_5 0 rfl rfl)
theorem dX0_handed_119 : decode cX0_handed 119 = .ok (.iload 4, 2) := dk_21 4 (dk_at dksX0_handed_5 2 rfl rfl)
theorem dX0_handed_121 : decode cX0_handed 121 = .ok (.if_icmp .lt 6, 3) := dk_161 0 6 (dk_at dksX0_handed_5 4 rfl rfl)
theorem dX0_handed_124 : decode cX0_handed 124 = .ok (.goto 25, 3) := dk_167 0 25 (dk_at dksX0_handed_5 7 rfl rfl)
theorem dX0_handed_127 : decode cX0_handed 127 = .ok (.aload 5, 2) := dk_25 5 (dk_at dksX0_handed_5 10 rfl rfl)
theorem dX0_handed_129 : decode cX0_handed 129 = .ok (.ifnull 16, 3) := dk_198 0 16 (dk_at dksX0_handed_5 12 rfl rfl)
theorem dX0_handed_132 : decode cX0_handed 132 = .ok (.aload 8, 2) := dk_25 8 (dk_at dksX0_handed_5 15 rfl rfl)
theorem dX0_handed_134 : decode cX0_handed 134 = .ok (.getfield 431, 3) := dk_180 1 175 (dk_at dksX0_handed_5 17 rfl rfl)
theorem dX0_handed_137 : decode cX0_handed 137 = .ok (.aload 5, 2) := dk_25 5 (dk_at dksX0_handed_5 20 rfl rfl)
theorem dX0_handed_139 : decode cX0_handed 139 = .ok (.getfield 431, 3) := dk_180 1 175 (dk_at dksX0_handed_6 0 rfl rfl)
theorem dX0_handed_142 : decode cX0_handed 142 = .ok (.if_icmp .lt 7, 3) := dk_161 0 7 (dk_at dksX0_handed_6 3 rfl rfl)
theorem dX0_handed_145 : decode cX0_handed 145 = .ok (.aload 8, 2) := dk_25 8 (dk_at dksX0_handed_6 6 rfl rfl)
theorem dX0_handed_147 : decode cX0_handed 147 = .ok (.astore 5, 2) := dk_58 5 (dk_at dksX0_handed_6 8 rfl rfl)
theorem dX0_handed_149 : decode cX0_handed 149 = .ok (.iinc 7 1, 3) := dk_132 7 1 (dk_at dksX0_handed_6 10 rfl rfl)
theorem dX0_handed_152 : decode cX0_handed 152 = .ok (.goto (-114), 3) := dk_167 255 142 (dk_at dksX0_handed_6 13 rfl rfl)
theorem dX0_handed_155 : decode cX0_handed 155 = .ok (.aload 5, 2) := dk_25 5 (dk_at dksX0_handed_6 16 rfl rfl)
theorem dX0_handed_157 : decode cX0_handed 157 = .ok (.areturn, 1) := dk_176 (dk_at dksX0_handed_6 18 rfl rfl)
def dkwX0_broken_4 : List UInt8 := [28, 21, 4, 182, 1, 181, 58, 5, 25, 5, 199, 0, 7, 2, 167, 0, 8, 25, 5, 180, 1, 29, 172]
abbrev dktX0_broken_4 : List UInt8 := dkwX0_broken_4 ++ []
def dkwX0_broken_3 : List UInt8 := [42, 180, 0, 10, 180, 1, 172, 21, 4, 182, 0, 232, 192, 1, 23, 180, 1, 175, 172, 42, 27, 17, 1, 144]
abbrev dktX0_broken_3 : List UInt8 := dkwX0_broken_3 ++ dktX0_broken_4
def dkwX0_broken_2 : List UInt8 := [154, 0, 24, 42, 180, 0, 10, 180, 1, 172, 21, 4, 182, 0, 232, 192, 1, 23, 180, 1, 29, 167, 0, 21]
abbrev dktX0_broken_2 : List UInt8 := dkwX0_broken_2 ++ dktX0_broken_3
def dkwX0_broken_1 : List UInt8 := [2, 172, 42, 27, 28, 182, 1, 188, 54, 4, 21, 4, 2, 160, 0, 5, 2, 172, 29, 4, 159, 0, 47, 29]
abbrev dktX0_broken_1 : List UInt8 := dkwX0_broken_1 ++ dktX0_broken_2
def dkwX0_broken_0 : List UInt8 := [42, 27, 182, 1, 169, 153, 0, 19, 28, 184, 0, 201, 153, 0, 12, 29, 3, 5, 184, 0, 127, 154, 0, 5]
abbrev dktX0_broken_0 : List UInt8 := dkwX0_broken_0 ++ dktX0_broken_1
theorem dksX0_broken_0 : cX0_broken.data.toList.drop 0 = dktX0_broken_0 := by decide +kernel
theorem dksX0_broken_1 : cX0_broken.data.toList.drop 24 = dktX0_broken_1 := dk_seg dksX0_broken_0 24 rfl rfl
theorem dksX0_broken_2 : cX0_broken.data.toList.drop 48 = dktX0_broken_2 := dk_seg dksX0_broken_1 24 rfl rfl
theorem dksX0_broken_3 : cX0_broken.data.toList.drop 72 = dktX0_broken_3 := dk_seg dksX0_broken_2 24 rfl rfl
theorem dksX0_broken_4 : cX0_broken.data.toList.drop 96 = dktX0_broken_4 := dk_seg dksX0_broken_3 24 rfl rfl
theorem dX0_broken_0 : decode cX0_broken 0 = .ok (.aload_n 0, 1) := dk_42 (dk_at dksX0_broken_0 0 rfl rfl)
theorem dX0_broken_1 : decode cX0_broken 1 = .ok (.iload_n 1, 1) := dk_27 (dk_at dksX0_broken_0 1 rfl rfl)
theorem dX0_broken_2 : decode cX0_broken 2 = .ok (.invokevirtual 425, 3) := dk_182 1 169 (dk_at dksX0_broken_0 2 rfl rfl)
theorem dX0_broken_5 : decode cX0_broken 5 = .ok (.ifCond .eq 19, 3) := dk_153 0 19 (dk_at dksX0_broken_0 5 rfl rfl)
theorem dX0_broken_8 : decode cX0_broken 8 = .ok (.iload_n 2, 1) := dk_28 (dk_at dksX0_broken_0 8 rfl rfl)
theorem dX0_broken_9 : decode cX0_broken 9 = .ok (.invokestatic 201, 3) := dk_184 0 201 (dk_at dksX0_broken_0 9 rfl rfl)
theorem dX0_broken_12 : decode cX0_broken 12 = .ok (.ifCond .eq 12, 3) := dk_153 0 12 (dk_at dksX0_broken_0 12 rfl rfl)
theorem dX0_broken_15 : decode cX0_broken 15 = .ok (.iload_n 3, 1) := dk_29 (dk_at dksX0_broken_0 15 rfl rfl)
theorem dX0_broken_16 : decode cX0_broken 16 = .ok (.iconst 0, 1) := dk_3 (dk_at dksX0_broken_0 16 rfl rfl)
theorem dX0_broken_17 : decode cX0_broken 17 = .ok (.iconst 2, 1) := dk_5 (dk_at dksX0_broken_0 17 rfl rfl)
theorem dX0_broken_18 : decode cX0_broken 18 = .ok (.invokestatic 127, 3) := dk_184 0 127 (dk_at dksX0_broken_0 18 rfl rfl)
theorem dX0_broken_21 : decode cX0_broken 21 = .ok (.ifCond .ne 5, 3) := dk_154 0 5 (dk_at dksX0_broken_0 21 rfl rfl)
theorem dX0_broken_24 : decode cX0_broken 24 = .ok (.iconst (-1), 1) := dk_2 (dk_at dksX0_broken_1 0 rfl rfl)
theorem dX0_broken_25 : decode cX0_broken 25 = .ok (.ireturn, 1) := dk_172 (dk_at dksX0_broken_1 1 rfl rfl)
theorem dX0_broken_26 : decode cX0_broken 26 = .ok (.aload_n 0, 1) := dk_42 (dk_at dksX0_broken_1 2 rfl rfl)
theorem dX0_broken_27 : decode cX0_broken 27 = .ok (.iload_n 1, 1) := dk_27 (dk_at dksX0_broken_1 3 rfl rfl)
theorem dX0_broken_28 : decode cX0_broken 28 = .ok (.iload_n 2, 1) := dk_28 (dk_at dksX0_broken_1 4 rfl rfl)
theorem dX0_broken_29 : decode cX0_broken 29 = .ok (.invokevirtual 444, 3) := dk_182 1 188 (dk_at dksX0_broken_1 5 rfl rfl)
theorem dX0_broken_32 : decode cX0_broken 32 = .ok (.istore 4, 2) := dk_54 4 (dk_at dksX0_broken_1 8 rfl rfl)
theorem dX0_broken_34 : decode cX0_broken 34 = .ok (.iload 4, 2) := dk_21 4 (dk_at dksX0_broken_1 10 rfl rfl)
theorem dX0_broken_36 : decode cX0_broken 36 = .ok (.iconst (-1), 1) := dk_2 (dk_at dksX0_broken_1 12 rfl rfl)
theorem dX0_broken_37 : decode cX0_broken 37 = .ok (.if_icmp .ne 5, 3) := dk_160 0 5 (dk_at dksX0_broken_1 13 rfl rfl)
theorem dX0_broken_40 : decode cX0_broken 40 = .ok (.iconst (-1), 1) := dk_2 (dk_at dksX0_broken_1 16 rfl rfl)
theorem dX0_broken_41 : decode cX0_broken 41 = .ok (.ireturn, 1) := dk_172 (dk_at dksX0_broken_1 17 rfl rfl)
theorem dX0_broken_42 : decode cX0_broken 42 = .ok (.iload_n 3, 1) := dk_29 (dk_at dksX0_broken_1 18 rfl rfl)
theorem dX0_broken_43 : decode cX0_broken 43 = .ok (.iconst 1, 1) := dk_4 (dk_at dksX0_broken_1 19 rfl rfl)
theorem dX0_broken_44 : decode cX0_broken 44 = .ok (.if_icmp .eq 47, 3) := dk_159 0 47 (dk_at dksX0_broken_1 20 rfl rfl)
theorem dX0_broken_47 : decode cX0_broken 47 = .ok (.iload_n 3, 1) := dk_29 (dk_at dksX0_broken_1 23 rfl rfl)
theorem dX0_broken_48 : decode cX0_broken 48 = .ok (.ifCond .ne 24, 3) := dk_154 0 24 (dk_at dksX0_broken_2 0 rfl rfl)
theorem dX0_broken_51 : decode cX0_broken 51 = .ok (.aload_n 0, 1) := dk_42 (dk_at dksX0_broken_2 3 rfl rfl)
theorem dX0_broken_52 : decode cX0_broken 52 = .ok (.getfield 10, 3) := dk_180 0 10 (dk_at dksX0_broken_2 4 rfl rfl)
theorem dX0_broken_55 : decode cX0_broken 55 = .ok (.getfield 428, 3) := dk_180 1 172 (dk_at dksX0_broken_2 7 rfl rfl)
theorem dX0_broken_58 : decode cX0_broken 58 = .ok (.iload 4, 2) := dk_21 4 (dk_at dksX0_broken_2 10 rfl rfl)
theorem dX0_broken_60 : decode cX0_broken 60 = .ok (.invokevirtual 232, 3) := dk_182 0 232 (dk_at dksX0_broken_2 12 rfl rfl)
theorem dX0_broken_63 : decode cX0_broken 63 = .ok (.checkcast 279, 3) := dk_192 1 23 (dk_at dksX0_broken_2 15 rfl rfl)
theorem dX0_broken_66 : decode cX0_broken 66 = .ok (.getfield 285, 3) := dk_180 1 29 (dk_at dksX0_broken_2 18 rfl rfl)
theorem dX0_broken_69 : decode cX0_broken 69 = .ok (.goto 21, 3) := dk_167 0 21 (dk_at dksX0_broken_2 21 rfl rfl)
theorem dX0_broken_72 : decode cX0_broken 72 = .ok (.aload_n 0, 1) := dk_42 (dk_at dksX0_broken_3 0 rfl rfl)
theorem dX0_broken_73 : decode cX0_broken 73 = .ok (.getfield 10, 3) := dk_180 0 10 (dk_at dksX0_broken_3 1 rfl rfl)
theorem dX0_broken_76 : decode cX0_broken 76 = .ok (.getfield 428, 3) := dk_180 1 172 (dk_at dksX0_broken_3 4 rfl rfl)
theorem dX0_broken_79 : decode cX0_broken 79 = .ok (.iload 4, 2) := dk_21 4 (dk_at dksX0_broken_3 7 rfl rfl)
theorem dX0_broken_81 : decode cX0_broken 81 = .ok (.invokevirtual 232, 3) := dk_182 0 232 (dk_at dksX0_broken_3 9 rfl rfl)
theorem dX0_broken_84 : decode cX0_broken 84 = .ok (.checkcast 279, 3) := dk_192 1 23 (dk_at dksX0_broken_3 12 rfl rfl)
theorem dX0_broken_87 : decode cX0_broken 87 = .ok (.getfield 431, 3) := dk_180 1 175 (dk_at dksX0_broken_3 15 rfl rfl)
theorem dX0_broken_90 : decode cX0_broken 90 = .ok (.ireturn, 1) := dk_172 (dk_at dksX0_broken_3 18 rfl rfl)
theorem dX0_broken_91 : decode cX0_broken 91 = .ok (.aload_n 0, 1) := dk_42 (dk_at dksX0_broken_3 19 rfl rfl)
theorem dX0_broken_92 : decode cX0_broken 92 = .ok (.iload_n 1, 1) := dk_27 (dk_at dksX0_broken_3 20 rfl rfl)
theorem dX0_broken_93 : decode cX0_broken 93 = .ok (.sipush 400, 3) := dk_17 1 144 (dk_at dksX0_broken_3 21 rfl rfl)
theorem dX0_broken_96 : decode cX0_broken 96 = .ok (.iload_n 2, 1) := dk_28 (dk_at dksX0_broken_4 0 rfl rfl)
theorem dX0_broken_97 : decode cX0_broken 97 = .ok (.iload 4, 2) := dk_21 4 (dk_at dksX0_broken_4 1 rfl rfl)
theorem dX0_broken_99 : decode cX0_broken 99 = .ok (.invokevirtual 437, 3) := dk_182 1 181 (dk_at dksX0_broken_4 3 rfl rfl)
theorem dX0_broken_102 : decode cX0_broken 102 = .ok (.astore 5, 2) := dk_58 5 (dk_at dksX0_broken_4 6 rfl rfl)
theorem dX0_broken_104 : decode cX0_broken 104 = .ok (.aload 5, 2) := dk_25 5 (dk_at dksX0_broken_4 8 rfl rfl)
theorem dX0_broken_106 : decode cX0_broken 106 = .ok (.ifnonnull 7, 3) := dk_199 0 7 (dk_at dksX0_broken_4 10 rfl rfl)
theorem dX0_broken_109 : decode cX0_broken 109 = .ok (.iconst (-1), 1) := dk_2 (dk_at dksX0_broken_4 13 rfl rfl)
theorem dX0_broken_110 : decode cX0_broken 110 = .ok (.goto 8, 3) := dk_167 0 8 (dk_at dksX0_broken_4 14 rfl rfl)
theorem dX0_broken_113 : decode cX0_broken 113 = .ok (.aload 5, 2) := dk_25 5 (dk_at dksX0_broken_4 17 rfl rfl)
theorem dX0_broken_115 : decode cX0_broken 115 = .ok (.getfield 285, 3) := dk_180 1 29 (dk_at dksX0_broken_4 19 rfl rfl)
theorem dX0_broken_118 : decode cX0_broken 118 = .ok (.ireturn, 1) := dk_172 (dk_at dksX0_broken_4 22 rfl rfl)
def dkwX0_breaks_4 : List UInt8 := [180, 1, 175, 162, 0, 6, 21, 4, 62, 132, 4, 1, 167, 255, 153, 29, 172]
abbrev dktX0_breaks_4 : List UInt8 := dkwX0_breaks_4 ++ []
def dkwX0_breaks_3 : List UInt8 := [29, 2, 159, 0, 28, 25, 5, 180, 1, 175, 42, 180, 0, 10, 180, 1, 172, 29, 182, 0, 232, 192, 1, 23]
abbrev dktX0_breaks_3 : List UInt8 := dkwX0_breaks_3 ++ dktX0_breaks_4
def dkwX0_breaks_2 : List UInt8 := [180, 1, 178, 28, 163, 0, 53, 25, 5, 180, 1, 185, 42, 180, 0, 10, 180, 1, 166, 27, 46, 159, 0, 36]
abbrev dktX0_breaks_2 : List UInt8 := dkwX0_breaks_2 ++ dktX0_breaks_3
def dkwX0_breaks_1 : List UInt8 := [180, 1, 172, 21, 4, 182, 0, 232, 192, 1, 23, 58, 5, 25, 5, 180, 1, 26, 27, 160, 0, 62, 25, 5]
abbrev dktX0_breaks_1 : List UInt8 := dkwX0_breaks_1 ++ dktX0_breaks_2
def dkwX0_breaks_0 : List UInt8 := [2, 62, 3, 54, 4, 21, 4, 42, 180, 0, 10, 180, 1, 172, 182, 0, 148, 162, 0, 94, 42, 180, 0, 10]
abbrev dktX0_breaks_0 : List UInt8 := dkwX0_breaks_0 ++ dktX0_breaks_1
theorem dksX0_breaks_0 : cX0_breaks.data.toList.drop 0 = dktX0_breaks_0 := by decide +kernel
theorem dksX0_breaks_1 : cX0_breaks.data.toList.drop 24 = dktX0_breaks_1 := dk_seg dksX0_breaks_0 24 rfl rfl
theorem dksX0_breaks_2 : cX0_breaks.data.toList.drop 48 = dktX0_breaks_2 := dk_seg dksX0_breaks_1 24 rfl rfl
theorem dksX0_breaks_3 : cX0_breaks.data.toList.drop 72 = dktX0_breaks_3 := dk_seg dksX0_breaks_2 24 rfl rfl
theorem dksX0_breaks_4 : cX0_breaks.data.toList.drop 96 = dktX0_breaks_4 := dk_seg dksX0_breaks_3 24 rfl rfl
theorem dX0_breaks_0 : decode cX0_breaks 0 = .ok (.iconst (-1), 1) := dk_2 (dk_at dksX0_breaks_0 0 rfl rfl)
theorem dX0_breaks_1 : decode cX0_breaks 1 = .ok (.istore_n 3, 1) := dk_62 (dk_at dksX0_breaks_0 1 rfl rfl)
theorem dX0_breaks_2 : decode cX0_breaks 2 = .ok (.iconst 0, 1) := dk_3 (dk_at dksX0_breaks_0 2 rfl rfl)
theorem dX0_breaks_3 : decode cX0_breaks 3 = .ok (.istore 4, 2) := dk_54 4 (dk_at dksX0_breaks_0 3 rfl rfl)
theorem dX0_breaks_5 : decode cX0_breaks 5 = .ok (.iload 4, 2) := dk_21 4 (dk_at dksX0_breaks_0 5 rfl rfl)
theorem dX0_breaks_7 : decode cX0_breaks 7 = .ok (.aload_n 0, 1) := dk_42 (dk_at dksX0_breaks_0 7 rfl rfl)
theorem dX0_breaks_8 : decode cX0_breaks 8 = .ok (.getfield 10, 3) := dk_180 0 10 (dk_at dksX0_breaks_0 8 rfl rfl)
theorem dX0_breaks_11 : decode cX0_breaks 11 = .ok (.getfield 428, 3) := dk_180 1 172 (dk_at dksX0_breaks_0 11 rfl rfl)
theorem dX0_breaks_14 : decode cX0_breaks 14 = .ok (.invokevirtual 148, 3) := dk_182 0 148 (dk_at dksX0_breaks_0 14 rfl rfl)
theorem dX0_breaks_17 : decode cX0_breaks 17 = .ok (.if_icmp .ge 94, 3) := dk_162 0 94 (dk_at dksX0_breaks_0 17 rfl rfl)
theorem dX0_breaks_20 : decode cX0_breaks 20 = .ok (.aload_n 0, 1) := dk_42 (dk_at dksX0_breaks_0 20 rfl rfl)
theorem dX0_breaks_21 : decode cX0_breaks 21 = .ok (.getfield 10, 3) := dk_180 0 10 (dk_at dksX0_breaks_0 21 rfl rfl)
theorem dX0_breaks_24 : decode cX0_breaks 24 = .ok (.getfield 428, 3) := dk_180 1 172 (dk_at dksX0_breaks_1 0 rfl rfl)
theorem dX0_breaks_27 : decode cX0_breaks 27 = .ok (.iload 4, 2) := dk_21 4 (dk_at dksX0_breaks_1 3 rfl rfl)
theorem dX0_breaks_29 : decode cX0_breaks 29 = .ok (.invokevirtual 232, 3) := dk_182 0 232 (dk_at dksX0_breaks_1 5 rfl rfl)
theorem dX0_breaks_32 : decode cX0_breaks 32 = .ok (.checkcast 279, 3) := dk_192 1 23 (dk_at dksX0_breaks_1 8 rfl rfl)
theorem dX0_breaks_35 : decode cX0_breaks 35 = .ok (.astore 5, 2) := dk_58 5 (dk_at dksX0_breaks_1 11 rfl rfl)
theorem dX0_breaks_37 : decode cX0_breaks 37 = .ok (.aload 5, 2) := dk_25 5 (dk_at dksX0_breaks_1 13 rfl rfl)
theorem dX0_breaks_39 : decode cX0_breaks 39 = .ok (.getfield 282, 3) := dk_180 1 26 (dk_at dksX0_breaks_1 15 rfl rfl)
theorem dX0_breaks_42 : decode cX0_breaks 42 = .ok (.iload_n 1, 1) := dk_27 (dk_at dksX0_breaks_1 18 rfl rfl)
theorem dX0_breaks_43 : decode cX0_breaks 43 = .ok (.if_icmp .ne 62, 3) := dk_160 0 62 (dk_at dksX0_breaks_1 19 rfl rfl)
theorem dX0_breaks_46 : decode cX0_breaks 46 = .ok (.aload 5, 2) := dk_25 5 (dk_at dksX0_breaks_1 22 rfl rfl)
theorem dX0_breaks_48 : decode cX0_breaks 48 = .ok (.getfield 434, 3) := dk_180 1 178 (dk_at dksX0_breaks_2 0 rfl rfl)
theorem dX0_breaks_51 : decode cX0_breaks 51 = .ok (.iload_n 2, 1) := dk_28 (dk_at dksX0_breaks_2 3 rfl rfl)
theorem dX0_breaks_52 : decode cX0_breaks 52 = .ok (.if_icmp .gt 53, 3) := dk_163 0 53 (dk_at dksX0_breaks_2 4 rfl rfl)
theorem dX0_breaks_55 : decode cX0_breaks 55 = .ok (.aload 5, 2) := dk_25 5 (dk_at dksX0_breaks_2 7 rfl rfl)
theorem dX0_breaks_57 : decode cX0_breaks 57 = .ok (.getfield 441, 3) := dk_180 1 185 (dk_at dksX0_breaks_2 9 rfl rfl)
theorem dX0_breaks_60 : decode cX0_breaks 60 = .ok (.aload_n 0, 1) := dk_42 (dk_at dksX0_breaks_2 12 rfl rfl)
theorem dX0_breaks_61 : decode cX0_breaks 61 = .ok (.getfield 10, 3) := dk_180 0 10 (dk_at dksX0_breaks_2 13 rfl rfl)
theorem dX0_breaks_64 : decode cX0_breaks 64 = .ok (.getfield 422, 3) := dk_180 1 166 (dk_at dksX0_breaks_2 16 rfl rfl)
theorem dX0_breaks_67 : decode cX0_breaks 67 = .ok (.iload_n 1, 1) := dk_27 (dk_at dksX0_breaks_2 19 rfl rfl)
theorem dX0_breaks_68 : decode cX0_breaks 68 = .ok (.iaload, 1) := dk_46 (dk_at dksX0_breaks_2 20 rfl rfl)
theorem dX0_breaks_69 : decode cX0_breaks 69 = .ok (.if_icmp .eq 36, 3) := dk_159 0 36 (dk_at dksX0_breaks_2 21 rfl rfl)
theorem dX0_breaks_72 : decode cX0_breaks 72 = .ok (.iload_n 3, 1) := dk_29 (dk_at dksX0_breaks_3 0 rfl rfl)
theorem dX0_breaks_73 : decode cX0_breaks 73 = .ok (.iconst (-1), 1) := dk_2 (dk_at dksX0_breaks_3 1 rfl rfl)
theorem dX0_breaks_74 : decode cX0_breaks 74 = .ok (.if_icmp .eq 28, 3) := dk_159 0 28 (dk_at dksX0_breaks_3 2 rfl rfl)
theorem dX0_breaks_77 : decode cX0_breaks 77 = .ok (.aload 5, 2) := dk_25 5 (dk_at dksX0_breaks_3 5 rfl rfl)
theorem dX0_breaks_79 : decode cX0_breaks 79 = .ok (.getfield 431, 3) := dk_180 1 175 (dk_at dksX0_breaks_3 7 rfl rfl)
theorem dX0_breaks_82 : decode cX0_breaks 82 = .ok (.aload_n 0, 1) := dk_42 (dk_at dksX0_breaks_3 10 rfl rfl)
theorem dX0_breaks_83 : decode cX0_breaks 83 = .ok (.getfield 10, 3) := dk_180 0 10 (dk_at dksX0_breaks_3 11 rfl rfl)
theorem dX0_breaks_86 : decode cX0_breaks 86 = .ok (.getfield 428, 3) := dk_180 1 172 (dk_at dksX0_breaks_3 14 rfl rfl)
theorem dX0_breaks_89 : decode cX0_breaks 89 = .ok (.iload_n 3, 1) := dk_29 (dk_at dksX0_breaks_3 17 rfl rfl)
theorem dX0_breaks_90 : decode cX0_breaks 90 = .ok (.invokevirtual 232, 3) := dk_182 0 232 (dk_at dksX0_breaks_3 18 rfl rfl)
theorem dX0_breaks_93 : decode cX0_breaks 93 = .ok (.checkcast 279, 3) := dk_192 1 23 (dk_at dksX0_breaks_3 21 rfl rfl)
theorem dX0_breaks_96 : decode cX0_breaks 96 = .ok (.getfield 431, 3) := dk_180 1 175 (dk_at dksX0_breaks_4 0 rfl rfl)
theorem dX0_breaks_99 : decode cX0_breaks 99 = .ok (.if_icmp .ge 6, 3) := dk_162 0 6 (dk_at dksX0_breaks_4 3 rfl rfl)
theorem dX0_breaks_102 : decode cX0_breaks 102 = .ok (.iload 4, 2) := dk_21 4 (dk_at dksX0_breaks_4 6 rfl rfl)
theorem dX0_breaks_104 : decode cX0_breaks 104 = .ok (.istore_n 3, 1) := dk_62 (dk_at dksX0_breaks_4 8 rfl rfl)
theorem dX0_breaks_105 : decode cX0_breaks 105 = .ok (.iinc 4 1, 3) := dk_132 4 1 (dk_at dksX0_breaks_4 9 rfl rfl)
theorem dX0_breaks_108 : decode cX0_breaks 108 = .ok (.goto (-103), 3) := dk_167 255 153 (dk_at dksX0_breaks_4 12 rfl rfl)
theorem dX0_breaks_111 : decode cX0_breaks 111 = .ok (.iload_n 3, 1) := dk_29 (dk_at dksX0_breaks_4 15 rfl rfl)
theorem dX0_breaks_112 : decode cX0_breaks 112 = .ok (.ireturn, 1) := dk_172 (dk_at dksX0_breaks_4 16 rfl rfl)
def dkwX0_paper_4 : List UInt8 := [182, 0, 178, 87, 42, 42, 180, 0, 10, 180, 1, 192, 182, 0, 148, 182, 0, 138, 172]
abbrev dktX0_paper_4 : List UInt8 := dkwX0_paper_4 ++ []
def dkwX0_paper_3 : List UInt8 := [182, 0, 131, 172, 42, 180, 0, 10, 180, 1, 192, 187, 1, 23, 89, 27, 28, 29, 21, 4, 3, 183, 1, 25]
abbrev dktX0_paper_3 : List UInt8 := dkwX0_paper_3 ++ dktX0_paper_4
def dkwX0_paper_2 : List UInt8 := [182, 0, 131, 172, 42, 180, 0, 10, 180, 1, 192, 182, 0, 148, 16, 120, 160, 0, 10, 42, 16, 251]
abbrev dktX0_paper_2 : List UInt8 := dkwX0_paper_2 ++ dktX0_paper_3
def dkwX0_paper_1 : List UInt8 := [184, 0, 201, 154, 0, 9, 42, 2, 182, 0, 131, 172, 42, 27, 182, 1, 160, 154, 0, 10, 42, 16, 254]
abbrev dktX0_paper_1 : List UInt8 := dkwX0_paper_1 ++ dktX0_paper_2
def dkwX0_paper_0 : List UInt8 := [28, 3, 6, 184, 0, 127, 153, 0, 22, 29, 3, 19, 1, 191, 184, 0, 127, 153, 0, 11, 21, 4]
abbrev dktX0_paper_0 : List UInt8 := dkwX0_paper_0 ++ dktX0_paper_1
theorem dksX0_paper_0 : cX0_paper.data.toList.drop 0 = dktX0_paper_0 := by decide +kernel
theorem dksX0_paper_1 : cX0_paper.data.toList.drop 22 = dktX0_paper_1 := dk_seg dksX0_paper_0 22 rfl rfl
theorem dksX0_paper_2 : cX0_paper.data.toList.drop 45 = dktX0_paper_2 := dk_seg dksX0_paper_1 23 rfl rfl
theorem dksX0_paper_3 : cX0_paper.data.toList.drop 67 = dktX0_paper_3 := dk_seg dksX0_paper_2 22 rfl rfl
theorem dksX0_paper_4 : cX0_paper.data.toList.drop 91 = dktX0_paper_4 := dk_seg dksX0_paper_3 24 rfl rfl
theorem dX0_paper_0 : decode cX0_paper 0 = .ok (.iload_n 2, 1) := dk_28 (dk_at dksX0_paper_0 0 rfl rfl)
theorem dX0_paper_1 : decode cX0_paper 1 = .ok (.iconst 0, 1) := dk_3 (dk_at dksX0_paper_0 1 rfl rfl)
theorem dX0_paper_2 : decode cX0_paper 2 = .ok (.iconst 3, 1) := dk_6 (dk_at dksX0_paper_0 2 rfl rfl)
theorem dX0_paper_3 : decode cX0_paper 3 = .ok (.invokestatic 127, 3) := dk_184 0 127 (dk_at dksX0_paper_0 3 rfl rfl)
theorem dX0_paper_6 : decode cX0_paper 6 = .ok (.ifCond .eq 22, 3) := dk_153 0 22 (dk_at dksX0_paper_0 6 rfl rfl)
theorem dX0_paper_9 : decode cX0_paper 9 = .ok (.iload_n 3, 1) := dk_29 (dk_at dksX0_paper_0 9 rfl rfl)
theorem dX0_paper_10 : decode cX0_paper 10 = .ok (.iconst 0, 1) := dk_3 (dk_at dksX0_paper_0 10 rfl rfl)
theorem dX0_paper_11 : decode cX0_paper 11 = .ok (.ldc_w 447, 3) := dk_19 1 191 (dk_at dksX0_paper_0 11 rfl rfl)
theorem dX0_paper_14 : decode cX0_paper 14 = .ok (.invokestatic 127, 3) := dk_184 0 127 (dk_at dksX0_paper_0 14 rfl rfl)
theorem dX0_paper_17 : decode cX0_paper 17 = .ok (.ifCond .eq 11, 3) := dk_153 0 11 (dk_at dksX0_paper_0 17 rfl rfl)
theorem dX0_paper_20 : decode cX0_paper 20 = .ok (.iload 4, 2) := dk_21 4 (dk_at dksX0_paper_0 20 rfl rfl)
theorem dX0_paper_22 : decode cX0_paper 22 = .ok (.invokestatic 201, 3) := dk_184 0 201 (dk_at dksX0_paper_1 0 rfl rfl)
theorem dX0_paper_25 : decode cX0_paper 25 = .ok (.ifCond .ne 9, 3) := dk_154 0 9 (dk_at dksX0_paper_1 3 rfl rfl)
theorem dX0_paper_28 : decode cX0_paper 28 = .ok (.aload_n 0, 1) := dk_42 (dk_at dksX0_paper_1 6 rfl rfl)
theorem dX0_paper_29 : decode cX0_paper 29 = .ok (.iconst (-1), 1) := dk_2 (dk_at dksX0_paper_1 7 rfl rfl)
theorem dX0_paper_30 : decode cX0_paper 30 = .ok (.invokevirtual 131, 3) := dk_182 0 131 (dk_at dksX0_paper_1 8 rfl rfl)
theorem dX0_paper_33 : decode cX0_paper 33 = .ok (.ireturn, 1) := dk_172 (dk_at dksX0_paper_1 11 rfl rfl)
theorem dX0_paper_34 : decode cX0_paper 34 = .ok (.aload_n 0, 1) := dk_42 (dk_at dksX0_paper_1 12 rfl rfl)
theorem dX0_paper_35 : decode cX0_paper 35 = .ok (.iload_n 1, 1) := dk_27 (dk_at dksX0_paper_1 13 rfl rfl)
theorem dX0_paper_36 : decode cX0_paper 36 = .ok (.invokevirtual 416, 3) := dk_182 1 160 (dk_at dksX0_paper_1 14 rfl rfl)
theorem dX0_paper_39 : decode cX0_paper 39 = .ok (.ifCond .ne 10, 3) := dk_154 0 10 (dk_at dksX0_paper_1 17 rfl rfl)
theorem dX0_paper_42 : decode cX0_paper 42 = .ok (.aload_n 0, 1) := dk_42 (dk_at dksX0_paper_1 20 rfl rfl)
theorem dX0_paper_43 : decode cX0_paper 43 = .ok (.bipush (-2), 2) := dk_16 254 (dk_at dksX0_paper_1 21 rfl rfl)
theorem dX0_paper_45 : decode cX0_paper 45 = .ok (.invokevirtual 131, 3) := dk_182 0 131 (dk_at dksX0_paper_2 0 rfl rfl)
theorem dX0_paper_48 : decode cX0_paper 48 = .ok (.ireturn, 1) := dk_172 (dk_at dksX0_paper_2 3 rfl rfl)
theorem dX0_paper_49 : decode cX0_paper 49 = .ok (.aload_n 0, 1) := dk_42 (dk_at dksX0_paper_2 4 rfl rfl)
theorem dX0_paper_50 : decode cX0_paper 50 = .ok (.getfield 10, 3) := dk_180 0 10 (dk_at dksX0_paper_2 5 rfl rfl)
theorem dX0_paper_53 : decode cX0_paper 53 = .ok (.getfield 448, 3) := dk_180 1 192 (dk_at dksX0_paper_2 8 rfl rfl)
theorem dX0_paper_56 : decode cX0_paper 56 = .ok (.invokevirtual 148, 3) := dk_182 0 148 (dk_at dksX0_paper_2 11 rfl rfl)
theorem dX0_paper_59 : decode cX0_paper 59 = .ok (.bipush 120, 2) := dk_16 120 (dk_at dksX0_paper_2 14 rfl rfl)
theorem dX0_paper_61 : decode cX0_paper 61 = .ok (.if_icmp .ne 10, 3) := dk_160 0 10 (dk_at dksX0_paper_2 16 rfl rfl)
theorem dX0_paper_64 : decode cX0_paper 64 = .ok (.aload_n 0, 1) := dk_42 (dk_at dksX0_paper_2 19 rfl rfl)
theorem dX0_paper_65 : decode cX0_paper 65 = .ok (.bipush (-5), 2) := dk_16 251 (dk_at dksX0_paper_2 20 rfl rfl)
theorem dX0_paper_67 : decode cX0_paper 67 = .ok (.invokevirtual 131, 3) := dk_182 0 131 (dk_at dksX0_paper_3 0 rfl rfl)
theorem dX0_paper_70 : decode cX0_paper 70 = .ok (.ireturn, 1) := dk_172 (dk_at dksX0_paper_3 3 rfl rfl)
theorem dX0_paper_71 : decode cX0_paper 71 = .ok (.aload_n 0, 1) := dk_42 (dk_at dksX0_paper_3 4 rfl rfl)
theorem dX0_paper_72 : decode cX0_paper 72 = .ok (.getfield 10, 3) := dk_180 0 10 (dk_at dksX0_paper_3 5 rfl rfl)
theorem dX0_paper_75 : decode cX0_paper 75 = .ok (.getfield 448, 3) := dk_180 1 192 (dk_at dksX0_paper_3 8 rfl rfl)
theorem dX0_paper_78 : decode cX0_paper 78 = .ok (.new 279, 3) := dk_187 1 23 (dk_at dksX0_paper_3 11 rfl rfl)
theorem dX0_paper_81 : decode cX0_paper 81 = .ok (.dup, 1) := dk_89 (dk_at dksX0_paper_3 14 rfl rfl)
theorem dX0_paper_82 : decode cX0_paper 82 = .ok (.iload_n 1, 1) := dk_27 (dk_at dksX0_paper_3 15 rfl rfl)
theorem dX0_paper_83 : decode cX0_paper 83 = .ok (.iload_n 2, 1) := dk_28 (dk_at dksX0_paper_3 16 rfl rfl)
theorem dX0_paper_84 : decode cX0_paper 84 = .ok (.iload_n 3, 1) := dk_29 (dk_at dksX0_paper_3 17 rfl rfl)
theorem dX0_paper_85 : decode cX0_paper 85 = .ok (.iload 4, 2) := dk_21 4 (dk_at dksX0_paper_3 18 rfl rfl)
theorem dX0_paper_87 : decode cX0_paper 87 = .ok (.iconst 0, 1) := dk_3 (dk_at dksX0_paper_3 20 rfl rfl)
theorem dX0_paper_88 : decode cX0_paper 88 = .ok (.invokespecial 281, 3) := dk_183 1 25 (dk_at dksX0_paper_3 21 rfl rfl)
theorem dX0_paper_91 : decode cX0_paper 91 = .ok (.invokevirtual 178, 3) := dk_182 0 178 (dk_at dksX0_paper_4 0 rfl rfl)
theorem dX0_paper_94 : decode cX0_paper 94 = .ok (.pop, 1) := dk_87 (dk_at dksX0_paper_4 3 rfl rfl)
theorem dX0_paper_95 : decode cX0_paper 95 = .ok (.aload_n 0, 1) := dk_42 (dk_at dksX0_paper_4 4 rfl rfl)
theorem dX0_paper_96 : decode cX0_paper 96 = .ok (.aload_n 0, 1) := dk_42 (dk_at dksX0_paper_4 5 rfl rfl)
theorem dX0_paper_97 : decode cX0_paper 97 = .ok (.getfield 10, 3) := dk_180 0 10 (dk_at dksX0_paper_4 6 rfl rfl)
theorem dX0_paper_100 : decode cX0_paper 100 = .ok (.getfield 448, 3) := dk_180 1 192 (dk_at dksX0_paper_4 9 rfl rfl)
theorem dX0_paper_103 : decode cX0_paper 103 = .ok (.invokevirtual 148, 3) := dk_182 0 148 (dk_at dksX0_paper_4 12 rfl rfl)
theorem dX0_paper_106 : decode cX0_paper 106 = .ok (.invokevirtual 138, 3) := dk_182 0 138 (dk_at dksX0_paper_4 15 rfl rfl)
theorem dX0_paper_109 : decode cX0_paper 109 = .ok (.ireturn, 1) := dk_172 (dk_at dksX0_paper_4 18 rfl rfl)
def dkwX0_count_5 : List UInt8 := [21, 6, 21, 4, 79, 42, 21, 6, 182, 0, 138, 172]
abbrev dktX0_count_5 : List UInt8 := dkwX0_count_5 ++ []
def dkwX0_count_4 : List UInt8 := [187, 1, 23, 89, 27, 28, 29, 21, 5, 3, 183, 1, 25, 182, 0, 178, 87, 42, 180, 0, 10, 180, 1, 198]
abbrev dktX0_count_4 : List UInt8 := dkwX0_count_4 ++ dktX0_count_5
def dkwX0_count_3 : List UInt8 := [54, 6, 21, 6, 17, 0, 200, 160, 0, 10, 42, 16, 251, 182, 0, 131, 172, 42, 180, 0, 10, 180, 1, 195]
abbrev dktX0_count_3 : List UInt8 := dkwX0_count_3 ++ dktX0_count_4
def dkwX0_count_2 : List UInt8 := [27, 182, 1, 169, 154, 0, 10, 42, 16, 254, 182, 0, 131, 172, 42, 180, 0, 10, 180, 1, 195, 182, 0, 148]
abbrev dktX0_count_2 : List UInt8 := dkwX0_count_2 ++ dktX0_count_3
def dkwX0_count_1 : List UInt8 := [17, 39, 16, 184, 0, 127, 153, 0, 11, 21, 5, 184, 0, 201, 154, 0, 9, 42, 2, 182, 0, 131, 172, 42]
abbrev dktX0_count_1 : List UInt8 := dkwX0_count_1 ++ dktX0_count_2
def dkwX0_count_0 : List UInt8 := [28, 3, 16, 7, 184, 0, 127, 153, 0, 33, 29, 3, 16, 9, 184, 0, 127, 153, 0, 23, 21, 4, 3]
abbrev dktX0_count_0 : List UInt8 := dkwX0_count_0 ++ dktX0_count_1
theorem dksX0_count_0 : cX0_count.data.toList.drop 0 = dktX0_count_0 := by decide +kernel
theorem dksX0_count_1 : cX0_count.data.toList.drop 23 = dktX0_count_1 := dk_seg dksX0_count_0 23 rfl rfl
theorem dksX0_count_2 : cX0_count.data.toList.drop 47 = dktX0_count_2 := dk_seg dksX0_count_1 24 rfl rfl
theorem dksX0_count_3 : cX0_count.data.toList.drop 71 = dktX0_count_3 := dk_seg dksX0_count_2 24 rfl rfl
theorem dksX0_count_4 : cX0_count.data.toList.drop 95 = dktX0_count_4 := dk_seg dksX0_count_3 24 rfl rfl
theorem dksX0_count_5 : cX0_count.data.toList.drop 119 = dktX0_count_5 := dk_seg dksX0_count_4 24 rfl rfl
theorem dX0_count_0 : decode cX0_count 0 = .ok (.iload_n 2, 1) := dk_28 (dk_at dksX0_count_0 0 rfl rfl)
theorem dX0_count_1 : decode cX0_count 1 = .ok (.iconst 0, 1) := dk_3 (dk_at dksX0_count_0 1 rfl rfl)
theorem dX0_count_2 : decode cX0_count 2 = .ok (.bipush 7, 2) := dk_16 7 (dk_at dksX0_count_0 2 rfl rfl)
theorem dX0_count_4 : decode cX0_count 4 = .ok (.invokestatic 127, 3) := dk_184 0 127 (dk_at dksX0_count_0 4 rfl rfl)
theorem dX0_count_7 : decode cX0_count 7 = .ok (.ifCond .eq 33, 3) := dk_153 0 33 (dk_at dksX0_count_0 7 rfl rfl)
theorem dX0_count_10 : decode cX0_count 10 = .ok (.iload_n 3, 1) := dk_29 (dk_at dksX0_count_0 10 rfl rfl)
theorem dX0_count_11 : decode cX0_count 11 = .ok (.iconst 0, 1) := dk_3 (dk_at dksX0_count_0 11 rfl rfl)
theorem dX0_count_12 : decode cX0_count 12 = .ok (.bipush 9, 2) := dk_16 9 (dk_at dksX0_count_0 12 rfl rfl)
theorem dX0_count_14 : decode cX0_count 14 = .ok (.invokestatic 127, 3) := dk_184 0 127 (dk_at dksX0_count_0 14 rfl rfl)
theorem dX0_count_17 : decode cX0_count 17 = .ok (.ifCond .eq 23, 3) := dk_153 0 23 (dk_at dksX0_count_0 17 rfl rfl)
theorem dX0_count_20 : decode cX0_count 20 = .ok (.iload 4, 2) := dk_21 4 (dk_at dksX0_count_0 20 rfl rfl)
theorem dX0_count_22 : decode cX0_count 22 = .ok (.iconst 0, 1) := dk_3 (dk_at dksX0_count_0 22 rfl rfl)
theorem dX0_count_23 : decode cX0_count 23 = .ok (.sipush 10000, 3) := dk_17 39 16 (dk_at dksX0_count_1 0 rfl rfl)
theorem dX0_count_26 : decode cX0_count 26 = .ok (.invokestatic 127, 3) := dk_184 0 127 (dk_at dksX0_count_1 3 rfl rfl)
theorem dX0_count_29 : decode cX0_count 29 = .ok (.ifCond .eq 11, 3) := dk_153 0 11 (dk_at dksX0_count_1 6 rfl rfl)
theorem dX0_count_32 : decode cX0_count 32 = .ok (.iload 5, 2) := dk_21 5 (dk_at dksX0_count_1 9 rfl rfl)
theorem dX0_count_34 : decode cX0_count 34 = .ok (.invokestatic 201, 3) := dk_184 0 201 (dk_at dksX0_count_1 11 rfl rfl)
theorem dX0_count_37 : decode cX0_count 37 = .ok (.ifCond .ne 9, 3) := dk_154 0 9 (dk_at dksX0_count_1 14 rfl rfl)
theorem dX0_count_40 : decode cX0_count 40 = .ok (.aload_n 0, 1) := dk_42 (dk_at dksX0_count_1 17 rfl rfl)
theorem dX0_count_41 : decode cX0_count 41 = .ok (.iconst (-1), 1) := dk_2 (dk_at dksX0_count_1 18 rfl rfl)
theorem dX0_count_42 : decode cX0_count 42 = .ok (.invokevirtual 131, 3) := dk_182 0 131 (dk_at dksX0_count_1 19 rfl rfl)
theorem dX0_count_45 : decode cX0_count 45 = .ok (.ireturn, 1) := dk_172 (dk_at dksX0_count_1 22 rfl rfl)
theorem dX0_count_46 : decode cX0_count 46 = .ok (.aload_n 0, 1) := dk_42 (dk_at dksX0_count_1 23 rfl rfl)
theorem dX0_count_47 : decode cX0_count 47 = .ok (.iload_n 1, 1) := dk_27 (dk_at dksX0_count_2 0 rfl rfl)
theorem dX0_count_48 : decode cX0_count 48 = .ok (.invokevirtual 425, 3) := dk_182 1 169 (dk_at dksX0_count_2 1 rfl rfl)
theorem dX0_count_51 : decode cX0_count 51 = .ok (.ifCond .ne 10, 3) := dk_154 0 10 (dk_at dksX0_count_2 4 rfl rfl)
theorem dX0_count_54 : decode cX0_count 54 = .ok (.aload_n 0, 1) := dk_42 (dk_at dksX0_count_2 7 rfl rfl)
theorem dX0_count_55 : decode cX0_count 55 = .ok (.bipush (-2), 2) := dk_16 254 (dk_at dksX0_count_2 8 rfl rfl)
theorem dX0_count_57 : decode cX0_count 57 = .ok (.invokevirtual 131, 3) := dk_182 0 131 (dk_at dksX0_count_2 10 rfl rfl)
theorem dX0_count_60 : decode cX0_count 60 = .ok (.ireturn, 1) := dk_172 (dk_at dksX0_count_2 13 rfl rfl)
theorem dX0_count_61 : decode cX0_count 61 = .ok (.aload_n 0, 1) := dk_42 (dk_at dksX0_count_2 14 rfl rfl)
theorem dX0_count_62 : decode cX0_count 62 = .ok (.getfield 10, 3) := dk_180 0 10 (dk_at dksX0_count_2 15 rfl rfl)
theorem dX0_count_65 : decode cX0_count 65 = .ok (.getfield 451, 3) := dk_180 1 195 (dk_at dksX0_count_2 18 rfl rfl)
theorem dX0_count_68 : decode cX0_count 68 = .ok (.invokevirtual 148, 3) := dk_182 0 148 (dk_at dksX0_count_2 21 rfl rfl)
theorem dX0_count_71 : decode cX0_count 71 = .ok (.istore 6, 2) := dk_54 6 (dk_at dksX0_count_3 0 rfl rfl)
theorem dX0_count_73 : decode cX0_count 73 = .ok (.iload 6, 2) := dk_21 6 (dk_at dksX0_count_3 2 rfl rfl)
theorem dX0_count_75 : decode cX0_count 75 = .ok (.sipush 200, 3) := dk_17 0 200 (dk_at dksX0_count_3 4 rfl rfl)
theorem dX0_count_78 : decode cX0_count 78 = .ok (.if_icmp .ne 10, 3) := dk_160 0 10 (dk_at dksX0_count_3 7 rfl rfl)
theorem dX0_count_81 : decode cX0_count 81 = .ok (.aload_n 0, 1) := dk_42 (dk_at dksX0_count_3 10 rfl rfl)
theorem dX0_count_82 : decode cX0_count 82 = .ok (.bipush (-5), 2) := dk_16 251 (dk_at dksX0_count_3 11 rfl rfl)
theorem dX0_count_84 : decode cX0_count 84 = .ok (.invokevirtual 131, 3) := dk_182 0 131 (dk_at dksX0_count_3 13 rfl rfl)
theorem dX0_count_87 : decode cX0_count 87 = .ok (.ireturn, 1) := dk_172 (dk_at dksX0_count_3 16 rfl rfl)
theorem dX0_count_88 : decode cX0_count 88 = .ok (.aload_n 0, 1) := dk_42 (dk_at dksX0_count_3 17 rfl rfl)
theorem dX0_count_89 : decode cX0_count 89 = .ok (.getfield 10, 3) := dk_180 0 10 (dk_at dksX0_count_3 18 rfl rfl)
theorem dX0_count_92 : decode cX0_count 92 = .ok (.getfield 451, 3) := dk_180 1 195 (dk_at dksX0_count_3 21 rfl rfl)
theorem dX0_count_95 : decode cX0_count 95 = .ok (.new 279, 3) := dk_187 1 23 (dk_at dksX0_count_4 0 rfl rfl)
theorem dX0_count_98 : decode cX0_count 98 = .ok (.dup, 1) := dk_89 (dk_at dksX0_count_4 3 rfl rfl)
theorem dX0_count_99 : decode cX0_count 99 = .ok (.iload_n 1, 1) := dk_27 (dk_at dksX0_count_4 4 rfl rfl)
theorem dX0_count_100 : decode cX0_count 100 = .ok (.iload_n 2, 1) := dk_28 (dk_at dksX0_count_4 5 rfl rfl)
theorem dX0_count_101 : decode cX0_count 101 = .ok (.iload_n 3, 1) := dk_29 (dk_at dksX0_count_4 6 rfl rfl)
theorem dX0_count_102 : decode cX0_count 102 = .ok (.iload 5, 2) := dk_21 5 (dk_at dksX0_count_4 7 rfl rfl)
theorem dX0_count_104 : decode cX0_count 104 = .ok (.iconst 0, 1) := dk_3 (dk_at dksX0_count_4 9 rfl rfl)
theorem dX0_count_105 : decode cX0_count 105 = .ok (.invokespecial 281, 3) := dk_183 1 25 (dk_at dksX0_count_4 10 rfl rfl)
theorem dX0_count_108 : decode cX0_count 108 = .ok (.invokevirtual 178, 3) := dk_182 0 178 (dk_at dksX0_count_4 13 rfl rfl)
theorem dX0_count_111 : decode cX0_count 111 = .ok (.pop, 1) := dk_87 (dk_at dksX0_count_4 16 rfl rfl)
theorem dX0_count_112 : decode cX0_count 112 = .ok (.aload_n 0, 1) := dk_42 (dk_at dksX0_count_4 17 rfl rfl)
theorem dX0_count_113 : decode cX0_count 113 = .ok (.getfield 10, 3) := dk_180 0 10 (dk_at dksX0_count_4 18 rfl rfl)
theorem dX0_count_116 : decode cX0_count 116 = .ok (.getfield 454, 3) := dk_180 1 198 (dk_at dksX0_count_4 21 rfl rfl)
theorem dX0_count_119 : decode cX0_count 119 = .ok (.iload 6, 2) := dk_21 6 (dk_at dksX0_count_5 0 rfl rfl)
theorem dX0_count_121 : decode cX0_count 121 = .ok (.iload 4, 2) := dk_21 4 (dk_at dksX0_count_5 2 rfl rfl)
theorem dX0_count_123 : decode cX0_count 123 = .ok (.iastore, 1) := dk_79 (dk_at dksX0_count_5 4 rfl rfl)
theorem dX0_count_124 : decode cX0_count 124 = .ok (.aload_n 0, 1) := dk_42 (dk_at dksX0_count_5 5 rfl rfl)
theorem dX0_count_125 : decode cX0_count 125 = .ok (.iload 6, 2) := dk_21 6 (dk_at dksX0_count_5 6 rfl rfl)
theorem dX0_count_127 : decode cX0_count 127 = .ok (.invokevirtual 138, 3) := dk_182 0 138 (dk_at dksX0_count_5 8 rfl rfl)
theorem dX0_count_130 : decode cX0_count 130 = .ok (.ireturn, 1) := dk_172 (dk_at dksX0_count_5 11 rfl rfl)
def dkwX0_tells_8 : List UInt8 := [4, 167, 0, 4, 3, 172, 42, 180, 0, 85, 27, 182, 1, 214, 172]
abbrev dktX0_tells_8 : List UInt8 := dkwX0_tells_8 ++ []
def dkwX0_tells_7 : List UInt8 := [182, 1, 208, 154, 0, 7, 4, 167, 0, 4, 3, 172, 42, 180, 0, 85, 180, 1, 211, 27, 51, 153, 0, 7]
abbrev dktX0_tells_7 : List UInt8 := dkwX0_tells_7 ++ dktX0_tells_8
def dkwX0_tells_6 : List UInt8 := [25, 5, 21, 6, 4, 96, 46, 25, 5, 21, 6, 6, 96, 46, 96, 160, 0, 18, 42, 180, 0, 85, 27]
abbrev dktX0_tells_6 : List UInt8 := dkwX0_tells_6 ++ dktX0_tells_7
def dkwX0_tells_5 : List UInt8 := [42, 180, 0, 85, 180, 1, 205, 27, 46, 172, 42, 180, 0, 85, 27, 182, 1, 208, 172, 25, 5, 21, 6, 46]
abbrev dktX0_tells_5 : List UInt8 := dkwX0_tells_5 ++ dktX0_tells_6
def dkwX0_tells_4 : List UInt8 := [170, 0, 0, 0, 0, 0, 108, 0, 0, 0, 4, 0, 0, 0, 7, 0, 0, 0, 31, 0, 0, 0, 41, 0, 0, 0, 50, 0, 0, 0, 90]
abbrev dktX0_tells_4 : List UInt8 := dkwX0_tells_4 ++ dktX0_tells_5
def dkwX0_tells_3 : List UInt8 := [21, 4, 96, 46, 172, 21, 4]
abbrev dktX0_tells_3 : List UInt8 := dkwX0_tells_3 ++ dktX0_tells_4
def dkwX0_tells_2 : List UInt8 := [180, 0, 85, 180, 1, 203, 58, 5, 7, 27, 104, 54, 6, 21, 4, 7, 162, 0, 12, 25, 5, 21, 6]
abbrev dktX0_tells_2 : List UInt8 := dkwX0_tells_2 ++ dktX0_tells_3
def dkwX0_tells_1 : List UInt8 := [3, 16, 8, 184, 0, 127, 154, 0, 7, 19, 1, 201, 172, 42, 180, 0, 85, 28, 29, 182, 1, 202, 42]
abbrev dktX0_tells_1 : List UInt8 := dkwX0_tells_1 ++ dktX0_tells_2
def dkwX0_tells_0 : List UInt8 := [42, 27, 182, 1, 160, 153, 0, 28, 28, 184, 0, 201, 153, 0, 21, 29, 184, 0, 201, 153, 0, 14, 21, 4]
abbrev dktX0_tells_0 : List UInt8 := dkwX0_tells_0 ++ dktX0_tells_1
theorem dksX0_tells_0 : cX0_tells.data.toList.drop 0 = dktX0_tells_0 := by decide +kernel
theorem dksX0_tells_1 : cX0_tells.data.toList.drop 24 = dktX0_tells_1 := dk_seg dksX0_tells_0 24 rfl rfl
theorem dksX0_tells_2 : cX0_tells.data.toList.drop 47 = dktX0_tells_2 := dk_seg dksX0_tells_1 23 rfl rfl
theorem dksX0_tells_3 : cX0_tells.data.toList.drop 70 = dktX0_tells_3 := dk_seg dksX0_tells_2 23 rfl rfl
theorem dksX0_tells_4 : cX0_tells.data.toList.drop 77 = dktX0_tells_4 := dk_seg dksX0_tells_3 7 rfl rfl
theorem dksX0_tells_5 : cX0_tells.data.toList.drop 108 = dktX0_tells_5 := dk_seg dksX0_tells_4 31 rfl rfl
theorem dksX0_tells_6 : cX0_tells.data.toList.drop 132 = dktX0_tells_6 := dk_seg dksX0_tells_5 24 rfl rfl
theorem dksX0_tells_7 : cX0_tells.data.toList.drop 155 = dktX0_tells_7 := dk_seg dksX0_tells_6 23 rfl rfl
theorem dksX0_tells_8 : cX0_tells.data.toList.drop 179 = dktX0_tells_8 := dk_seg dksX0_tells_7 24 rfl rfl
theorem dX0_tells_0 : decode cX0_tells 0 = .ok (.aload_n 0, 1) := dk_42 (dk_at dksX0_tells_0 0 rfl rfl)
theorem dX0_tells_1 : decode cX0_tells 1 = .ok (.iload_n 1, 1) := dk_27 (dk_at dksX0_tells_0 1 rfl rfl)
theorem dX0_tells_2 : decode cX0_tells 2 = .ok (.invokevirtual 416, 3) := dk_182 1 160 (dk_at dksX0_tells_0 2 rfl rfl)
theorem dX0_tells_5 : decode cX0_tells 5 = .ok (.ifCond .eq 28, 3) := dk_153 0 28 (dk_at dksX0_tells_0 5 rfl rfl)
theorem dX0_tells_8 : decode cX0_tells 8 = .ok (.iload_n 2, 1) := dk_28 (dk_at dksX0_tells_0 8 rfl rfl)
theorem dX0_tells_9 : decode cX0_tells 9 = .ok (.invokestatic 201, 3) := dk_184 0 201 (dk_at dksX0_tells_0 9 rfl rfl)
theorem dX0_tells_12 : decode cX0_tells 12 = .ok (.ifCond .eq 21, 3) := dk_153 0 21 (dk_at dksX0_tells_0 12 rfl rfl)
theorem dX0_tells_15 : decode cX0_tells 15 = .ok (.iload_n 3, 1) := dk_29 (dk_at dksX0_tells_0 15 rfl rfl)
theorem dX0_tells_16 : decode cX0_tells 16 = .ok (.invokestatic 201, 3) := dk_184 0 201 (dk_at dksX0_tells_0 16 rfl rfl)
theorem dX0_tells_19 : decode cX0_tells 19 = .ok (.ifCond .eq 14, 3) := dk_153 0 14 (dk_at dksX0_tells_0 19 rfl rfl)
theorem dX0_tells_22 : decode cX0_tells 22 = .ok (.iload 4, 2) := dk_21 4 (dk_at dksX0_tells_0 22 rfl rfl)
theorem dX0_tells_24 : decode cX0_tells 24 = .ok (.iconst 0, 1) := dk_3 (dk_at dksX0_tells_1 0 rfl rfl)
theorem dX0_tells_25 : decode cX0_tells 25 = .ok (.bipush 8, 2) := dk_16 8 (dk_at dksX0_tells_1 1 rfl rfl)
theorem dX0_tells_27 : decode cX0_tells 27 = .ok (.invokestatic 127, 3) := dk_184 0 127 (dk_at dksX0_tells_1 3 rfl rfl)
theorem dX0_tells_30 : decode cX0_tells 30 = .ok (.ifCond .ne 7, 3) := dk_154 0 7 (dk_at dksX0_tells_1 6 rfl rfl)
theorem dX0_tells_33 : decode cX0_tells 33 = .ok (.ldc_w 457, 3) := dk_19 1 201 (dk_at dksX0_tells_1 9 rfl rfl)
theorem dX0_tells_36 : decode cX0_tells 36 = .ok (.ireturn, 1) := dk_172 (dk_at dksX0_tells_1 12 rfl rfl)
theorem dX0_tells_37 : decode cX0_tells 37 = .ok (.aload_n 0, 1) := dk_42 (dk_at dksX0_tells_1 13 rfl rfl)
theorem dX0_tells_38 : decode cX0_tells 38 = .ok (.getfield 85, 3) := dk_180 0 85 (dk_at dksX0_tells_1 14 rfl rfl)
theorem dX0_tells_41 : decode cX0_tells 41 = .ok (.iload_n 2, 1) := dk_28 (dk_at dksX0_tells_1 17 rfl rfl)
theorem dX0_tells_42 : decode cX0_tells 42 = .ok (.iload_n 3, 1) := dk_29 (dk_at dksX0_tells_1 18 rfl rfl)
theorem dX0_tells_43 : decode cX0_tells 43 = .ok (.invokevirtual 458, 3) := dk_182 1 202 (dk_at dksX0_tells_1 19 rfl rfl)
theorem dX0_tells_46 : decode cX0_tells 46 = .ok (.aload_n 0, 1) := dk_42 (dk_at dksX0_tells_1 22 rfl rfl)
theorem dX0_tells_47 : decode cX0_tells 47 = .ok (.getfield 85, 3) := dk_180 0 85 (dk_at dksX0_tells_2 0 rfl rfl)
theorem dX0_tells_50 : decode cX0_tells 50 = .ok (.getfield 459, 3) := dk_180 1 203 (dk_at dksX0_tells_2 3 rfl rfl)
theorem dX0_tells_53 : decode cX0_tells 53 = .ok (.astore 5, 2) := dk_58 5 (dk_at dksX0_tells_2 6 rfl rfl)
theorem dX0_tells_55 : decode cX0_tells 55 = .ok (.iconst 4, 1) := dk_7 (dk_at dksX0_tells_2 8 rfl rfl)
theorem dX0_tells_56 : decode cX0_tells 56 = .ok (.iload_n 1, 1) := dk_27 (dk_at dksX0_tells_2 9 rfl rfl)
theorem dX0_tells_57 : decode cX0_tells 57 = .ok (.imul, 1) := dk_104 (dk_at dksX0_tells_2 10 rfl rfl)
theorem dX0_tells_58 : decode cX0_tells 58 = .ok (.istore 6, 2) := dk_54 6 (dk_at dksX0_tells_2 11 rfl rfl)
theorem dX0_tells_60 : decode cX0_tells 60 = .ok (.iload 4, 2) := dk_21 4 (dk_at dksX0_tells_2 13 rfl rfl)
theorem dX0_tells_62 : decode cX0_tells 62 = .ok (.iconst 4, 1) := dk_7 (dk_at dksX0_tells_2 15 rfl rfl)
theorem dX0_tells_63 : decode cX0_tells 63 = .ok (.if_icmp .ge 12, 3) := dk_162 0 12 (dk_at dksX0_tells_2 16 rfl rfl)
theorem dX0_tells_66 : decode cX0_tells 66 = .ok (.aload 5, 2) := dk_25 5 (dk_at dksX0_tells_2 19 rfl rfl)
theorem dX0_tells_68 : decode cX0_tells 68 = .ok (.iload 6, 2) := dk_21 6 (dk_at dksX0_tells_2 21 rfl rfl)
theorem dX0_tells_70 : decode cX0_tells 70 = .ok (.iload 4, 2) := dk_21 4 (dk_at dksX0_tells_3 0 rfl rfl)
theorem dX0_tells_72 : decode cX0_tells 72 = .ok (.iadd, 1) := dk_96 (dk_at dksX0_tells_3 2 rfl rfl)
theorem dX0_tells_73 : decode cX0_tells 73 = .ok (.iaload, 1) := dk_46 (dk_at dksX0_tells_3 3 rfl rfl)
theorem dX0_tells_74 : decode cX0_tells 74 = .ok (.ireturn, 1) := dk_172 (dk_at dksX0_tells_3 4 rfl rfl)
theorem dX0_tells_75 : decode cX0_tells 75 = .ok (.iload 4, 2) := dk_21 4 (dk_at dksX0_tells_3 5 rfl rfl)
theorem dX0_tells_77 : decode cX0_tells 77 = .ok (.tableswitch 108 4 7 #[31, 41, 50, 90], 31) := by decide +kernel
theorem dX0_tells_108 : decode cX0_tells 108 = .ok (.aload_n 0, 1) := dk_42 (dk_at dksX0_tells_5 0 rfl rfl)
theorem dX0_tells_109 : decode cX0_tells 109 = .ok (.getfield 85, 3) := dk_180 0 85 (dk_at dksX0_tells_5 1 rfl rfl)
theorem dX0_tells_112 : decode cX0_tells 112 = .ok (.getfield 461, 3) := dk_180 1 205 (dk_at dksX0_tells_5 4 rfl rfl)
theorem dX0_tells_115 : decode cX0_tells 115 = .ok (.iload_n 1, 1) := dk_27 (dk_at dksX0_tells_5 7 rfl rfl)
theorem dX0_tells_116 : decode cX0_tells 116 = .ok (.iaload, 1) := dk_46 (dk_at dksX0_tells_5 8 rfl rfl)
theorem dX0_tells_117 : decode cX0_tells 117 = .ok (.ireturn, 1) := dk_172 (dk_at dksX0_tells_5 9 rfl rfl)
theorem dX0_tells_118 : decode cX0_tells 118 = .ok (.aload_n 0, 1) := dk_42 (dk_at dksX0_tells_5 10 rfl rfl)
theorem dX0_tells_119 : decode cX0_tells 119 = .ok (.getfield 85, 3) := dk_180 0 85 (dk_at dksX0_tells_5 11 rfl rfl)
theorem dX0_tells_122 : decode cX0_tells 122 = .ok (.iload_n 1, 1) := dk_27 (dk_at dksX0_tells_5 14 rfl rfl)
theorem dX0_tells_123 : decode cX0_tells 123 = .ok (.invokevirtual 464, 3) := dk_182 1 208 (dk_at dksX0_tells_5 15 rfl rfl)
theorem dX0_tells_126 : decode cX0_tells 126 = .ok (.ireturn, 1) := dk_172 (dk_at dksX0_tells_5 18 rfl rfl)
theorem dX0_tells_127 : decode cX0_tells 127 = .ok (.aload 5, 2) := dk_25 5 (dk_at dksX0_tells_5 19 rfl rfl)
theorem dX0_tells_129 : decode cX0_tells 129 = .ok (.iload 6, 2) := dk_21 6 (dk_at dksX0_tells_5 21 rfl rfl)
theorem dX0_tells_131 : decode cX0_tells 131 = .ok (.iaload, 1) := dk_46 (dk_at dksX0_tells_5 23 rfl rfl)
theorem dX0_tells_132 : decode cX0_tells 132 = .ok (.aload 5, 2) := dk_25 5 (dk_at dksX0_tells_6 0 rfl rfl)
theorem dX0_tells_134 : decode cX0_tells 134 = .ok (.iload 6, 2) := dk_21 6 (dk_at dksX0_tells_6 2 rfl rfl)
theorem dX0_tells_136 : decode cX0_tells 136 = .ok (.iconst 1, 1) := dk_4 (dk_at dksX0_tells_6 4 rfl rfl)
theorem dX0_tells_137 : decode cX0_tells 137 = .ok (.iadd, 1) := dk_96 (dk_at dksX0_tells_6 5 rfl rfl)
theorem dX0_tells_138 : decode cX0_tells 138 = .ok (.iaload, 1) := dk_46 (dk_at dksX0_tells_6 6 rfl rfl)
theorem dX0_tells_139 : decode cX0_tells 139 = .ok (.aload 5, 2) := dk_25 5 (dk_at dksX0_tells_6 7 rfl rfl)
theorem dX0_tells_141 : decode cX0_tells 141 = .ok (.iload 6, 2) := dk_21 6 (dk_at dksX0_tells_6 9 rfl rfl)
theorem dX0_tells_143 : decode cX0_tells 143 = .ok (.iconst 3, 1) := dk_6 (dk_at dksX0_tells_6 11 rfl rfl)
theorem dX0_tells_144 : decode cX0_tells 144 = .ok (.iadd, 1) := dk_96 (dk_at dksX0_tells_6 12 rfl rfl)
theorem dX0_tells_145 : decode cX0_tells 145 = .ok (.iaload, 1) := dk_46 (dk_at dksX0_tells_6 13 rfl rfl)
theorem dX0_tells_146 : decode cX0_tells 146 = .ok (.iadd, 1) := dk_96 (dk_at dksX0_tells_6 14 rfl rfl)
theorem dX0_tells_147 : decode cX0_tells 147 = .ok (.if_icmp .ne 18, 3) := dk_160 0 18 (dk_at dksX0_tells_6 15 rfl rfl)
theorem dX0_tells_150 : decode cX0_tells 150 = .ok (.aload_n 0, 1) := dk_42 (dk_at dksX0_tells_6 18 rfl rfl)
theorem dX0_tells_151 : decode cX0_tells 151 = .ok (.getfield 85, 3) := dk_180 0 85 (dk_at dksX0_tells_6 19 rfl rfl)
theorem dX0_tells_154 : decode cX0_tells 154 = .ok (.iload_n 1, 1) := dk_27 (dk_at dksX0_tells_6 22 rfl rfl)
theorem dX0_tells_155 : decode cX0_tells 155 = .ok (.invokevirtual 464, 3) := dk_182 1 208 (dk_at dksX0_tells_7 0 rfl rfl)
theorem dX0_tells_158 : decode cX0_tells 158 = .ok (.ifCond .ne 7, 3) := dk_154 0 7 (dk_at dksX0_tells_7 3 rfl rfl)
theorem dX0_tells_161 : decode cX0_tells 161 = .ok (.iconst 1, 1) := dk_4 (dk_at dksX0_tells_7 6 rfl rfl)
theorem dX0_tells_162 : decode cX0_tells 162 = .ok (.goto 4, 3) := dk_167 0 4 (dk_at dksX0_tells_7 7 rfl rfl)
theorem dX0_tells_165 : decode cX0_tells 165 = .ok (.iconst 0, 1) := dk_3 (dk_at dksX0_tells_7 10 rfl rfl)
theorem dX0_tells_166 : decode cX0_tells 166 = .ok (.ireturn, 1) := dk_172 (dk_at dksX0_tells_7 11 rfl rfl)
theorem dX0_tells_167 : decode cX0_tells 167 = .ok (.aload_n 0, 1) := dk_42 (dk_at dksX0_tells_7 12 rfl rfl)
theorem dX0_tells_168 : decode cX0_tells 168 = .ok (.getfield 85, 3) := dk_180 0 85 (dk_at dksX0_tells_7 13 rfl rfl)
theorem dX0_tells_171 : decode cX0_tells 171 = .ok (.getfield 467, 3) := dk_180 1 211 (dk_at dksX0_tells_7 16 rfl rfl)
theorem dX0_tells_174 : decode cX0_tells 174 = .ok (.iload_n 1, 1) := dk_27 (dk_at dksX0_tells_7 19 rfl rfl)
theorem dX0_tells_175 : decode cX0_tells 175 = .ok (.baload, 1) := dk_51 (dk_at dksX0_tells_7 20 rfl rfl)
theorem dX0_tells_176 : decode cX0_tells 176 = .ok (.ifCond .eq 7, 3) := dk_153 0 7 (dk_at dksX0_tells_7 21 rfl rfl)
theorem dX0_tells_179 : decode cX0_tells 179 = .ok (.iconst 1, 1) := dk_4 (dk_at dksX0_tells_8 0 rfl rfl)
theorem dX0_tells_180 : decode cX0_tells 180 = .ok (.goto 4, 3) := dk_167 0 4 (dk_at dksX0_tells_8 1 rfl rfl)
theorem dX0_tells_183 : decode cX0_tells 183 = .ok (.iconst 0, 1) := dk_3 (dk_at dksX0_tells_8 4 rfl rfl)
theorem dX0_tells_184 : decode cX0_tells 184 = .ok (.ireturn, 1) := dk_172 (dk_at dksX0_tells_8 5 rfl rfl)
theorem dX0_tells_185 : decode cX0_tells 185 = .ok (.aload_n 0, 1) := dk_42 (dk_at dksX0_tells_8 6 rfl rfl)
theorem dX0_tells_186 : decode cX0_tells 186 = .ok (.getfield 85, 3) := dk_180 0 85 (dk_at dksX0_tells_8 7 rfl rfl)
theorem dX0_tells_189 : decode cX0_tells 189 = .ok (.iload_n 1, 1) := dk_27 (dk_at dksX0_tells_8 10 rfl rfl)
theorem dX0_tells_190 : decode cX0_tells 190 = .ok (.invokevirtual 470, 3) := dk_182 1 214 (dk_at dksX0_tells_8 11 rfl rfl)
theorem dX0_tells_193 : decode cX0_tells 193 = .ok (.ireturn, 1) := dk_172 (dk_at dksX0_tells_8 14 rfl rfl)
def dkwX0_keep_2 : List UInt8 := [172, 42, 180, 0, 10, 180, 1, 217, 16, 8, 27, 104, 28, 96, 4, 84, 42, 3, 182, 0, 138, 172]
abbrev dktX0_keep_2 : List UInt8 := dkwX0_keep_2 ++ []
def dkwX0_keep_1 : List UInt8 := [172, 42, 180, 0, 10, 180, 1, 217, 16, 8, 27, 104, 28, 96, 51, 153, 0, 10, 42, 16, 252, 182, 0, 131]
abbrev dktX0_keep_1 : List UInt8 := dkwX0_keep_1 ++ dktX0_keep_2
def dkwX0_keep_0 : List UInt8 := [27, 3, 8, 184, 0, 127, 153, 0, 13, 28, 3, 16, 7, 184, 0, 127, 154, 0, 9, 42, 2, 182, 0, 131]
abbrev dktX0_keep_0 : List UInt8 := dkwX0_keep_0 ++ dktX0_keep_1
theorem dksX0_keep_0 : cX0_keep.data.toList.drop 0 = dktX0_keep_0 := by decide +kernel
theorem dksX0_keep_1 : cX0_keep.data.toList.drop 24 = dktX0_keep_1 := dk_seg dksX0_keep_0 24 rfl rfl
theorem dksX0_keep_2 : cX0_keep.data.toList.drop 48 = dktX0_keep_2 := dk_seg dksX0_keep_1 24 rfl rfl
theorem dX0_keep_0 : decode cX0_keep 0 = .ok (.iload_n 1, 1) := dk_27 (dk_at dksX0_keep_0 0 rfl rfl)
theorem dX0_keep_1 : decode cX0_keep 1 = .ok (.iconst 0, 1) := dk_3 (dk_at dksX0_keep_0 1 rfl rfl)
theorem dX0_keep_2 : decode cX0_keep 2 = .ok (.iconst 5, 1) := dk_8 (dk_at dksX0_keep_0 2 rfl rfl)
theorem dX0_keep_3 : decode cX0_keep 3 = .ok (.invokestatic 127, 3) := dk_184 0 127 (dk_at dksX0_keep_0 3 rfl rfl)
theorem dX0_keep_6 : decode cX0_keep 6 = .ok (.ifCond .eq 13, 3) := dk_153 0 13 (dk_at dksX0_keep_0 6 rfl rfl)
theorem dX0_keep_9 : decode cX0_keep 9 = .ok (.iload_n 2, 1) := dk_28 (dk_at dksX0_keep_0 9 rfl rfl)
theorem dX0_keep_10 : decode cX0_keep 10 = .ok (.iconst 0, 1) := dk_3 (dk_at dksX0_keep_0 10 rfl rfl)
theorem dX0_keep_11 : decode cX0_keep 11 = .ok (.bipush 7, 2) := dk_16 7 (dk_at dksX0_keep_0 11 rfl rfl)
theorem dX0_keep_13 : decode cX0_keep 13 = .ok (.invokestatic 127, 3) := dk_184 0 127 (dk_at dksX0_keep_0 13 rfl rfl)
theorem dX0_keep_16 : decode cX0_keep 16 = .ok (.ifCond .ne 9, 3) := dk_154 0 9 (dk_at dksX0_keep_0 16 rfl rfl)
theorem dX0_keep_19 : decode cX0_keep 19 = .ok (.aload_n 0, 1) := dk_42 (dk_at dksX0_keep_0 19 rfl rfl)
theorem dX0_keep_20 : decode cX0_keep 20 = .ok (.iconst (-1), 1) := dk_2 (dk_at dksX0_keep_0 20 rfl rfl)
theorem dX0_keep_21 : decode cX0_keep 21 = .ok (.invokevirtual 131, 3) := dk_182 0 131 (dk_at dksX0_keep_0 21 rfl rfl)
theorem dX0_keep_24 : decode cX0_keep 24 = .ok (.ireturn, 1) := dk_172 (dk_at dksX0_keep_1 0 rfl rfl)
theorem dX0_keep_25 : decode cX0_keep 25 = .ok (.aload_n 0, 1) := dk_42 (dk_at dksX0_keep_1 1 rfl rfl)
theorem dX0_keep_26 : decode cX0_keep 26 = .ok (.getfield 10, 3) := dk_180 0 10 (dk_at dksX0_keep_1 2 rfl rfl)
theorem dX0_keep_29 : decode cX0_keep 29 = .ok (.getfield 473, 3) := dk_180 1 217 (dk_at dksX0_keep_1 5 rfl rfl)
theorem dX0_keep_32 : decode cX0_keep 32 = .ok (.bipush 8, 2) := dk_16 8 (dk_at dksX0_keep_1 8 rfl rfl)
theorem dX0_keep_34 : decode cX0_keep 34 = .ok (.iload_n 1, 1) := dk_27 (dk_at dksX0_keep_1 10 rfl rfl)
theorem dX0_keep_35 : decode cX0_keep 35 = .ok (.imul, 1) := dk_104 (dk_at dksX0_keep_1 11 rfl rfl)
theorem dX0_keep_36 : decode cX0_keep 36 = .ok (.iload_n 2, 1) := dk_28 (dk_at dksX0_keep_1 12 rfl rfl)
theorem dX0_keep_37 : decode cX0_keep 37 = .ok (.iadd, 1) := dk_96 (dk_at dksX0_keep_1 13 rfl rfl)
theorem dX0_keep_38 : decode cX0_keep 38 = .ok (.baload, 1) := dk_51 (dk_at dksX0_keep_1 14 rfl rfl)
theorem dX0_keep_39 : decode cX0_keep 39 = .ok (.ifCond .eq 10, 3) := dk_153 0 10 (dk_at dksX0_keep_1 15 rfl rfl)
theorem dX0_keep_42 : decode cX0_keep 42 = .ok (.aload_n 0, 1) := dk_42 (dk_at dksX0_keep_1 18 rfl rfl)
theorem dX0_keep_43 : decode cX0_keep 43 = .ok (.bipush (-4), 2) := dk_16 252 (dk_at dksX0_keep_1 19 rfl rfl)
theorem dX0_keep_45 : decode cX0_keep 45 = .ok (.invokevirtual 131, 3) := dk_182 0 131 (dk_at dksX0_keep_1 21 rfl rfl)
theorem dX0_keep_48 : decode cX0_keep 48 = .ok (.ireturn, 1) := dk_172 (dk_at dksX0_keep_2 0 rfl rfl)
theorem dX0_keep_49 : decode cX0_keep 49 = .ok (.aload_n 0, 1) := dk_42 (dk_at dksX0_keep_2 1 rfl rfl)
theorem dX0_keep_50 : decode cX0_keep 50 = .ok (.getfield 10, 3) := dk_180 0 10 (dk_at dksX0_keep_2 2 rfl rfl)
theorem dX0_keep_53 : decode cX0_keep 53 = .ok (.getfield 473, 3) := dk_180 1 217 (dk_at dksX0_keep_2 5 rfl rfl)
theorem dX0_keep_56 : decode cX0_keep 56 = .ok (.bipush 8, 2) := dk_16 8 (dk_at dksX0_keep_2 8 rfl rfl)
theorem dX0_keep_58 : decode cX0_keep 58 = .ok (.iload_n 1, 1) := dk_27 (dk_at dksX0_keep_2 10 rfl rfl)
theorem dX0_keep_59 : decode cX0_keep 59 = .ok (.imul, 1) := dk_104 (dk_at dksX0_keep_2 11 rfl rfl)
theorem dX0_keep_60 : decode cX0_keep 60 = .ok (.iload_n 2, 1) := dk_28 (dk_at dksX0_keep_2 12 rfl rfl)
theorem dX0_keep_61 : decode cX0_keep 61 = .ok (.iadd, 1) := dk_96 (dk_at dksX0_keep_2 13 rfl rfl)
theorem dX0_keep_62 : decode cX0_keep 62 = .ok (.iconst 1, 1) := dk_4 (dk_at dksX0_keep_2 14 rfl rfl)
theorem dX0_keep_63 : decode cX0_keep 63 = .ok (.bastore, 1) := dk_84 (dk_at dksX0_keep_2 15 rfl rfl)
theorem dX0_keep_64 : decode cX0_keep 64 = .ok (.aload_n 0, 1) := dk_42 (dk_at dksX0_keep_2 16 rfl rfl)
theorem dX0_keep_65 : decode cX0_keep 65 = .ok (.iconst 0, 1) := dk_3 (dk_at dksX0_keep_2 17 rfl rfl)
theorem dX0_keep_66 : decode cX0_keep 66 = .ok (.invokevirtual 138, 3) := dk_182 0 138 (dk_at dksX0_keep_2 18 rfl rfl)
theorem dX0_keep_69 : decode cX0_keep 69 = .ok (.ireturn, 1) := dk_172 (dk_at dksX0_keep_2 21 rfl rfl)
def dkwX0_seat_4 : List UInt8 := [167, 0, 16, 42, 27, 182, 1, 237, 153, 0, 7, 4, 167, 0, 4, 3, 172]
abbrev dktX0_seat_4 : List UInt8 := dkwX0_seat_4 ++ []
def dkwX0_seat_3 : List UInt8 := [16, 8, 160, 0, 10, 42, 180, 1, 226, 167, 0, 30, 21, 4, 16, 9, 160, 0, 10, 42, 180, 1, 231]
abbrev dktX0_seat_3 : List UInt8 := dkwX0_seat_3 ++ dktX0_seat_4
def dkwX0_seat_2 : List UInt8 := [42, 27, 182, 1, 234, 21, 4, 16, 8, 162, 0, 13, 42, 180, 0, 89, 21, 4, 46, 167, 0, 44, 21, 4]
abbrev dktX0_seat_2 : List UInt8 := dkwX0_seat_2 ++ dktX0_seat_3
def dkwX0_seat_1 : List UInt8 := [21, 4, 3, 16, 10, 184, 0, 127, 154, 0, 7, 19, 1, 201, 172, 42, 180, 0, 85, 28, 29, 182, 1, 202]
abbrev dktX0_seat_1 : List UInt8 := dkwX0_seat_1 ++ dktX0_seat_2
def dkwX0_seat_0 : List UInt8 := [27, 3, 8, 184, 0, 127, 153, 0, 28, 28, 184, 0, 201, 153, 0, 21, 29, 184, 0, 201, 153, 0, 14]
abbrev dktX0_seat_0 : List UInt8 := dkwX0_seat_0 ++ dktX0_seat_1
theorem dksX0_seat_0 : cX0_seat.data.toList.drop 0 = dktX0_seat_0 := by decide +kernel
theorem dksX0_seat_1 : cX0_seat.data.toList.drop 23 = dktX0_seat_1 := dk_seg dksX0_seat_0 23 rfl rfl
theorem dksX0_seat_2 : cX0_seat.data.toList.drop 47 = dktX0_seat_2 := dk_seg dksX0_seat_1 24 rfl rfl
theorem dksX0_seat_3 : cX0_seat.data.toList.drop 71 = dktX0_seat_3 := dk_seg dksX0_seat_2 24 rfl rfl
theorem dksX0_seat_4 : cX0_seat.data.toList.drop 94 = dktX0_seat_4 := dk_seg dksX0_seat_3 23 rfl rfl
theorem dX0_seat_0 : decode cX0_seat 0 = .ok (.iload_n 1, 1) := dk_27 (dk_at dksX0_seat_0 0 rfl rfl)
theorem dX0_seat_1 : decode cX0_seat 1 = .ok (.iconst 0, 1) := dk_3 (dk_at dksX0_seat_0 1 rfl rfl)
theorem dX0_seat_2 : decode cX0_seat 2 = .ok (.iconst 5, 1) := dk_8 (dk_at dksX0_seat_0 2 rfl rfl)
theorem dX0_seat_3 : decode cX0_seat 3 = .ok (.invokestatic 127, 3) := dk_184 0 127 (dk_at dksX0_seat_0 3 rfl rfl)
theorem dX0_seat_6 : decode cX0_seat 6 = .ok (.ifCond .eq 28, 3) := dk_153 0 28 (dk_at dksX0_seat_0 6 rfl rfl)
theorem dX0_seat_9 : decode cX0_seat 9 = .ok (.iload_n 2, 1) := dk_28 (dk_at dksX0_seat_0 9 rfl rfl)
theorem dX0_seat_10 : decode cX0_seat 10 = .ok (.invokestatic 201, 3) := dk_184 0 201 (dk_at dksX0_seat_0 10 rfl rfl)
theorem dX0_seat_13 : decode cX0_seat 13 = .ok (.ifCond .eq 21, 3) := dk_153 0 21 (dk_at dksX0_seat_0 13 rfl rfl)
theorem dX0_seat_16 : decode cX0_seat 16 = .ok (.iload_n 3, 1) := dk_29 (dk_at dksX0_seat_0 16 rfl rfl)
theorem dX0_seat_17 : decode cX0_seat 17 = .ok (.invokestatic 201, 3) := dk_184 0 201 (dk_at dksX0_seat_0 17 rfl rfl)
theorem dX0_seat_20 : decode cX0_seat 20 = .ok (.ifCond .eq 14, 3) := dk_153 0 14 (dk_at dksX0_seat_0 20 rfl rfl)
theorem dX0_seat_23 : decode cX0_seat 23 = .ok (.iload 4, 2) := dk_21 4 (dk_at dksX0_seat_1 0 rfl rfl)
theorem dX0_seat_25 : decode cX0_seat 25 = .ok (.iconst 0, 1) := dk_3 (dk_at dksX0_seat_1 2 rfl rfl)
theorem dX0_seat_26 : decode cX0_seat 26 = .ok (.bipush 10, 2) := dk_16 10 (dk_at dksX0_seat_1 3 rfl rfl)
theorem dX0_seat_28 : decode cX0_seat 28 = .ok (.invokestatic 127, 3) := dk_184 0 127 (dk_at dksX0_seat_1 5 rfl rfl)
theorem dX0_seat_31 : decode cX0_seat 31 = .ok (.ifCond .ne 7, 3) := dk_154 0 7 (dk_at dksX0_seat_1 8 rfl rfl)
theorem dX0_seat_34 : decode cX0_seat 34 = .ok (.ldc_w 457, 3) := dk_19 1 201 (dk_at dksX0_seat_1 11 rfl rfl)
theorem dX0_seat_37 : decode cX0_seat 37 = .ok (.ireturn, 1) := dk_172 (dk_at dksX0_seat_1 14 rfl rfl)
theorem dX0_seat_38 : decode cX0_seat 38 = .ok (.aload_n 0, 1) := dk_42 (dk_at dksX0_seat_1 15 rfl rfl)
theorem dX0_seat_39 : decode cX0_seat 39 = .ok (.getfield 85, 3) := dk_180 0 85 (dk_at dksX0_seat_1 16 rfl rfl)
theorem dX0_seat_42 : decode cX0_seat 42 = .ok (.iload_n 2, 1) := dk_28 (dk_at dksX0_seat_1 19 rfl rfl)
theorem dX0_seat_43 : decode cX0_seat 43 = .ok (.iload_n 3, 1) := dk_29 (dk_at dksX0_seat_1 20 rfl rfl)
theorem dX0_seat_44 : decode cX0_seat 44 = .ok (.invokevirtual 458, 3) := dk_182 1 202 (dk_at dksX0_seat_1 21 rfl rfl)
theorem dX0_seat_47 : decode cX0_seat 47 = .ok (.aload_n 0, 1) := dk_42 (dk_at dksX0_seat_2 0 rfl rfl)
theorem dX0_seat_48 : decode cX0_seat 48 = .ok (.iload_n 1, 1) := dk_27 (dk_at dksX0_seat_2 1 rfl rfl)
theorem dX0_seat_49 : decode cX0_seat 49 = .ok (.invokevirtual 490, 3) := dk_182 1 234 (dk_at dksX0_seat_2 2 rfl rfl)
theorem dX0_seat_52 : decode cX0_seat 52 = .ok (.iload 4, 2) := dk_21 4 (dk_at dksX0_seat_2 5 rfl rfl)
theorem dX0_seat_54 : decode cX0_seat 54 = .ok (.bipush 8, 2) := dk_16 8 (dk_at dksX0_seat_2 7 rfl rfl)
theorem dX0_seat_56 : decode cX0_seat 56 = .ok (.if_icmp .ge 13, 3) := dk_162 0 13 (dk_at dksX0_seat_2 9 rfl rfl)
theorem dX0_seat_59 : decode cX0_seat 59 = .ok (.aload_n 0, 1) := dk_42 (dk_at dksX0_seat_2 12 rfl rfl)
theorem dX0_seat_60 : decode cX0_seat 60 = .ok (.getfield 89, 3) := dk_180 0 89 (dk_at dksX0_seat_2 13 rfl rfl)
theorem dX0_seat_63 : decode cX0_seat 63 = .ok (.iload 4, 2) := dk_21 4 (dk_at dksX0_seat_2 16 rfl rfl)
theorem dX0_seat_65 : decode cX0_seat 65 = .ok (.iaload, 1) := dk_46 (dk_at dksX0_seat_2 18 rfl rfl)
theorem dX0_seat_66 : decode cX0_seat 66 = .ok (.goto 44, 3) := dk_167 0 44 (dk_at dksX0_seat_2 19 rfl rfl)
theorem dX0_seat_69 : decode cX0_seat 69 = .ok (.iload 4, 2) := dk_21 4 (dk_at dksX0_seat_2 22 rfl rfl)
theorem dX0_seat_71 : decode cX0_seat 71 = .ok (.bipush 8, 2) := dk_16 8 (dk_at dksX0_seat_3 0 rfl rfl)
theorem dX0_seat_73 : decode cX0_seat 73 = .ok (.if_icmp .ne 10, 3) := dk_160 0 10 (dk_at dksX0_seat_3 2 rfl rfl)
theorem dX0_seat_76 : decode cX0_seat 76 = .ok (.aload_n 0, 1) := dk_42 (dk_at dksX0_seat_3 5 rfl rfl)
theorem dX0_seat_77 : decode cX0_seat 77 = .ok (.getfield 482, 3) := dk_180 1 226 (dk_at dksX0_seat_3 6 rfl rfl)
theorem dX0_seat_80 : decode cX0_seat 80 = .ok (.goto 30, 3) := dk_167 0 30 (dk_at dksX0_seat_3 9 rfl rfl)
theorem dX0_seat_83 : decode cX0_seat 83 = .ok (.iload 4, 2) := dk_21 4 (dk_at dksX0_seat_3 12 rfl rfl)
theorem dX0_seat_85 : decode cX0_seat 85 = .ok (.bipush 9, 2) := dk_16 9 (dk_at dksX0_seat_3 14 rfl rfl)
theorem dX0_seat_87 : decode cX0_seat 87 = .ok (.if_icmp .ne 10, 3) := dk_160 0 10 (dk_at dksX0_seat_3 16 rfl rfl)
theorem dX0_seat_90 : decode cX0_seat 90 = .ok (.aload_n 0, 1) := dk_42 (dk_at dksX0_seat_3 19 rfl rfl)
theorem dX0_seat_91 : decode cX0_seat 91 = .ok (.getfield 487, 3) := dk_180 1 231 (dk_at dksX0_seat_3 20 rfl rfl)
theorem dX0_seat_94 : decode cX0_seat 94 = .ok (.goto 16, 3) := dk_167 0 16 (dk_at dksX0_seat_4 0 rfl rfl)
theorem dX0_seat_97 : decode cX0_seat 97 = .ok (.aload_n 0, 1) := dk_42 (dk_at dksX0_seat_4 3 rfl rfl)
theorem dX0_seat_98 : decode cX0_seat 98 = .ok (.iload_n 1, 1) := dk_27 (dk_at dksX0_seat_4 4 rfl rfl)
theorem dX0_seat_99 : decode cX0_seat 99 = .ok (.invokevirtual 493, 3) := dk_182 1 237 (dk_at dksX0_seat_4 5 rfl rfl)
theorem dX0_seat_102 : decode cX0_seat 102 = .ok (.ifCond .eq 7, 3) := dk_153 0 7 (dk_at dksX0_seat_4 8 rfl rfl)
theorem dX0_seat_105 : decode cX0_seat 105 = .ok (.iconst 1, 1) := dk_4 (dk_at dksX0_seat_4 11 rfl rfl)
theorem dX0_seat_106 : decode cX0_seat 106 = .ok (.goto 4, 3) := dk_167 0 4 (dk_at dksX0_seat_4 12 rfl rfl)
theorem dX0_seat_109 : decode cX0_seat 109 = .ok (.iconst 0, 1) := dk_3 (dk_at dksX0_seat_4 15 rfl rfl)
theorem dX0_seat_110 : decode cX0_seat 110 = .ok (.ireturn, 1) := dk_172 (dk_at dksX0_seat_4 16 rfl rfl)
def dkwX0_reckons_10 : List UInt8 := [42, 180, 1, 226, 2, 160, 0, 7, 3, 167, 0, 7, 29, 21, 4, 100, 181, 1, 231, 177]
abbrev dktX0_reckons_10 : List UInt8 := dkwX0_reckons_10 ++ []
def dkwX0_reckons_9 : List UInt8 := [46, 184, 1, 229, 54, 4, 132, 5, 1, 167, 255, 176, 21, 4, 29, 160, 0, 8, 42, 2, 181, 1, 226, 42]
abbrev dktX0_reckons_9 : List UInt8 := dkwX0_reckons_9 ++ dktX0_reckons_10
def dkwX0_reckons_8 : List UInt8 := [180, 0, 89, 21, 5, 46, 62, 42, 21, 5, 181, 1, 226, 167, 0, 17, 21, 4, 42, 180, 0, 89, 21, 5]
abbrev dktX0_reckons_8 : List UInt8 := dkwX0_reckons_8 ++ dktX0_reckons_9
def dkwX0_reckons_7 : List UInt8 := [96, 51, 154, 0, 6, 167, 0, 48, 42, 180, 0, 89, 21, 5, 46, 29, 164, 0, 23, 29, 54, 4, 42]
abbrev dktX0_reckons_7 : List UInt8 := dkwX0_reckons_7 ++ dktX0_reckons_8
def dkwX0_reckons_6 : List UInt8 := [21, 5, 16, 8, 162, 0, 79, 28, 153, 0, 24, 42, 180, 0, 10, 180, 1, 217, 16, 8, 27, 104, 21, 5]
abbrev dktX0_reckons_6 : List UInt8 := dkwX0_reckons_6 ++ dktX0_reckons_7
def dkwX0_reckons_5 : List UInt8 := [167, 0, 4, 3, 61, 132, 3, 1, 167, 255, 220, 3, 62, 3, 54, 4, 42, 2, 181, 1, 226, 3, 54, 5]
abbrev dktX0_reckons_5 : List UInt8 := dkwX0_reckons_5 ++ dktX0_reckons_6
def dkwX0_reckons_4 : List UInt8 := [28, 154, 0, 20, 42, 180, 0, 10, 180, 1, 217, 16, 8, 27, 104, 29, 96, 51, 153, 0, 7, 4]
abbrev dktX0_reckons_4 : List UInt8 := dkwX0_reckons_4 ++ dktX0_reckons_5
def dkwX0_reckons_3 : List UInt8 := [96, 79, 132, 3, 1, 167, 255, 224, 132, 2, 1, 167, 255, 196, 3, 61, 3, 62, 29, 16, 8, 162, 0, 36]
abbrev dktX0_reckons_3 : List UInt8 := dkwX0_reckons_3 ++ dktX0_reckons_4
def dkwX0_reckons_2 : List UInt8 := [162, 0, 32, 42, 180, 0, 89, 29, 92, 46, 42, 180, 0, 85, 180, 1, 223, 16, 8, 28, 104, 29, 96, 46]
abbrev dktX0_reckons_2 : List UInt8 := dkwX0_reckons_2 ++ dktX0_reckons_3
def dkwX0_reckons_1 : List UInt8 := [42, 180, 0, 10, 180, 0, 154, 162, 0, 55, 42, 28, 182, 1, 220, 27, 160, 0, 40, 3, 62, 29, 16, 8]
abbrev dktX0_reckons_1 : List UInt8 := dkwX0_reckons_1 ++ dktX0_reckons_2
def dkwX0_reckons_0 : List UInt8 := [3, 61, 28, 16, 8, 162, 0, 16, 42, 180, 0, 89, 28, 3, 79, 132, 2, 1, 167, 255, 240, 3, 61, 28]
abbrev dktX0_reckons_0 : List UInt8 := dkwX0_reckons_0 ++ dktX0_reckons_1
theorem dksX0_reckons_0 : cX0_reckons.data.toList.drop 0 = dktX0_reckons_0 := by decide +kernel
theorem dksX0_reckons_1 : cX0_reckons.data.toList.drop 24 = dktX0_reckons_1 := dk_seg dksX0_reckons_0 24 rfl rfl
theorem dksX0_reckons_2 : cX0_reckons.data.toList.drop 48 = dktX0_reckons_2 := dk_seg dksX0_reckons_1 24 rfl rfl
theorem dksX0_reckons_3 : cX0_reckons.data.toList.drop 72 = dktX0_reckons_3 := dk_seg dksX0_reckons_2 24 rfl rfl
theorem dksX0_reckons_4 : cX0_reckons.data.toList.drop 96 = dktX0_reckons_4 := dk_seg dksX0_reckons_3 24 rfl rfl
theorem dksX0_reckons_5 : cX0_reckons.data.toList.drop 118 = dktX0_reckons_5 := dk_seg dksX0_reckons_4 22 rfl rfl
theorem dksX0_reckons_6 : cX0_reckons.data.toList.drop 142 = dktX0_reckons_6 := dk_seg dksX0_reckons_5 24 rfl rfl
theorem dksX0_reckons_7 : cX0_reckons.data.toList.drop 166 = dktX0_reckons_7 := dk_seg dksX0_reckons_6 24 rfl rfl
theorem dksX0_reckons_8 : cX0_reckons.data.toList.drop 189 = dktX0_reckons_8 := dk_seg dksX0_reckons_7 23 rfl rfl
theorem dksX0_reckons_9 : cX0_reckons.data.toList.drop 213 = dktX0_reckons_9 := dk_seg dksX0_reckons_8 24 rfl rfl
theorem dksX0_reckons_10 : cX0_reckons.data.toList.drop 237 = dktX0_reckons_10 := dk_seg dksX0_reckons_9 24 rfl rfl
theorem dX0_reckons_0 : decode cX0_reckons 0 = .ok (.iconst 0, 1) := dk_3 (dk_at dksX0_reckons_0 0 rfl rfl)
theorem dX0_reckons_1 : decode cX0_reckons 1 = .ok (.istore_n 2, 1) := dk_61 (dk_at dksX0_reckons_0 1 rfl rfl)
theorem dX0_reckons_2 : decode cX0_reckons 2 = .ok (.iload_n 2, 1) := dk_28 (dk_at dksX0_reckons_0 2 rfl rfl)
theorem dX0_reckons_3 : decode cX0_reckons 3 = .ok (.bipush 8, 2) := dk_16 8 (dk_at dksX0_reckons_0 3 rfl rfl)
theorem dX0_reckons_5 : decode cX0_reckons 5 = .ok (.if_icmp .ge 16, 3) := dk_162 0 16 (dk_at dksX0_reckons_0 5 rfl rfl)
theorem dX0_reckons_8 : decode cX0_reckons 8 = .ok (.aload_n 0, 1) := dk_42 (dk_at dksX0_reckons_0 8 rfl rfl)
theorem dX0_reckons_9 : decode cX0_reckons 9 = .ok (.getfield 89, 3) := dk_180 0 89 (dk_at dksX0_reckons_0 9 rfl rfl)
theorem dX0_reckons_12 : decode cX0_reckons 12 = .ok (.iload_n 2, 1) := dk_28 (dk_at dksX0_reckons_0 12 rfl rfl)
theorem dX0_reckons_13 : decode cX0_reckons 13 = .ok (.iconst 0, 1) := dk_3 (dk_at dksX0_reckons_0 13 rfl rfl)
theorem dX0_reckons_14 : decode cX0_reckons 14 = .ok (.iastore, 1) := dk_79 (dk_at dksX0_reckons_0 14 rfl rfl)
theorem dX0_reckons_15 : decode cX0_reckons 15 = .ok (.iinc 2 1, 3) := dk_132 2 1 (dk_at dksX0_reckons_0 15 rfl rfl)
theorem dX0_reckons_18 : decode cX0_reckons 18 = .ok (.goto (-16), 3) := dk_167 255 240 (dk_at dksX0_reckons_0 18 rfl rfl)
theorem dX0_reckons_21 : decode cX0_reckons 21 = .ok (.iconst 0, 1) := dk_3 (dk_at dksX0_reckons_0 21 rfl rfl)
theorem dX0_reckons_22 : decode cX0_reckons 22 = .ok (.istore_n 2, 1) := dk_61 (dk_at dksX0_reckons_0 22 rfl rfl)
theorem dX0_reckons_23 : decode cX0_reckons 23 = .ok (.iload_n 2, 1) := dk_28 (dk_at dksX0_reckons_0 23 rfl rfl)
theorem dX0_reckons_24 : decode cX0_reckons 24 = .ok (.aload_n 0, 1) := dk_42 (dk_at dksX0_reckons_1 0 rfl rfl)
theorem dX0_reckons_25 : decode cX0_reckons 25 = .ok (.getfield 10, 3) := dk_180 0 10 (dk_at dksX0_reckons_1 1 rfl rfl)
theorem dX0_reckons_28 : decode cX0_reckons 28 = .ok (.getfield 154, 3) := dk_180 0 154 (dk_at dksX0_reckons_1 4 rfl rfl)
theorem dX0_reckons_31 : decode cX0_reckons 31 = .ok (.if_icmp .ge 55, 3) := dk_162 0 55 (dk_at dksX0_reckons_1 7 rfl rfl)
theorem dX0_reckons_34 : decode cX0_reckons 34 = .ok (.aload_n 0, 1) := dk_42 (dk_at dksX0_reckons_1 10 rfl rfl)
theorem dX0_reckons_35 : decode cX0_reckons 35 = .ok (.iload_n 2, 1) := dk_28 (dk_at dksX0_reckons_1 11 rfl rfl)
theorem dX0_reckons_36 : decode cX0_reckons 36 = .ok (.invokevirtual 476, 3) := dk_182 1 220 (dk_at dksX0_reckons_1 12 rfl rfl)
theorem dX0_reckons_39 : decode cX0_reckons 39 = .ok (.iload_n 1, 1) := dk_27 (dk_at dksX0_reckons_1 15 rfl rfl)
theorem dX0_reckons_40 : decode cX0_reckons 40 = .ok (.if_icmp .ne 40, 3) := dk_160 0 40 (dk_at dksX0_reckons_1 16 rfl rfl)
theorem dX0_reckons_43 : decode cX0_reckons 43 = .ok (.iconst 0, 1) := dk_3 (dk_at dksX0_reckons_1 19 rfl rfl)
theorem dX0_reckons_44 : decode cX0_reckons 44 = .ok (.istore_n 3, 1) := dk_62 (dk_at dksX0_reckons_1 20 rfl rfl)
theorem dX0_reckons_45 : decode cX0_reckons 45 = .ok (.iload_n 3, 1) := dk_29 (dk_at dksX0_reckons_1 21 rfl rfl)
theorem dX0_reckons_46 : decode cX0_reckons 46 = .ok (.bipush 8, 2) := dk_16 8 (dk_at dksX0_reckons_1 22 rfl rfl)
theorem dX0_reckons_48 : decode cX0_reckons 48 = .ok (.if_icmp .ge 32, 3) := dk_162 0 32 (dk_at dksX0_reckons_2 0 rfl rfl)
theorem dX0_reckons_51 : decode cX0_reckons 51 = .ok (.aload_n 0, 1) := dk_42 (dk_at dksX0_reckons_2 3 rfl rfl)
theorem dX0_reckons_52 : decode cX0_reckons 52 = .ok (.getfield 89, 3) := dk_180 0 89 (dk_at dksX0_reckons_2 4 rfl rfl)
theorem dX0_reckons_55 : decode cX0_reckons 55 = .ok (.iload_n 3, 1) := dk_29 (dk_at dksX0_reckons_2 7 rfl rfl)
theorem dX0_reckons_56 : decode cX0_reckons 56 = .ok (.dup2, 1) := dk_92 (dk_at dksX0_reckons_2 8 rfl rfl)
theorem dX0_reckons_57 : decode cX0_reckons 57 = .ok (.iaload, 1) := dk_46 (dk_at dksX0_reckons_2 9 rfl rfl)
theorem dX0_reckons_58 : decode cX0_reckons 58 = .ok (.aload_n 0, 1) := dk_42 (dk_at dksX0_reckons_2 10 rfl rfl)
theorem dX0_reckons_59 : decode cX0_reckons 59 = .ok (.getfield 85, 3) := dk_180 0 85 (dk_at dksX0_reckons_2 11 rfl rfl)
theorem dX0_reckons_62 : decode cX0_reckons 62 = .ok (.getfield 479, 3) := dk_180 1 223 (dk_at dksX0_reckons_2 14 rfl rfl)
theorem dX0_reckons_65 : decode cX0_reckons 65 = .ok (.bipush 8, 2) := dk_16 8 (dk_at dksX0_reckons_2 17 rfl rfl)
theorem dX0_reckons_67 : decode cX0_reckons 67 = .ok (.iload_n 2, 1) := dk_28 (dk_at dksX0_reckons_2 19 rfl rfl)
theorem dX0_reckons_68 : decode cX0_reckons 68 = .ok (.imul, 1) := dk_104 (dk_at dksX0_reckons_2 20 rfl rfl)
theorem dX0_reckons_69 : decode cX0_reckons 69 = .ok (.iload_n 3, 1) := dk_29 (dk_at dksX0_reckons_2 21 rfl rfl)
theorem dX0_reckons_70 : decode cX0_reckons 70 = .ok (.iadd, 1) := dk_96 (dk_at dksX0_reckons_2 22 rfl rfl)
theorem dX0_reckons_71 : decode cX0_reckons 71 = .ok (.iaload, 1) := dk_46 (dk_at dksX0_reckons_2 23 rfl rfl)
theorem dX0_reckons_72 : decode cX0_reckons 72 = .ok (.iadd, 1) := dk_96 (dk_at dksX0_reckons_3 0 rfl rfl)
theorem dX0_reckons_73 : decode cX0_reckons 73 = .ok (.iastore, 1) := dk_79 (dk_at dksX0_reckons_3 1 rfl rfl)
theorem dX0_reckons_74 : decode cX0_reckons 74 = .ok (.iinc 3 1, 3) := dk_132 3 1 (dk_at dksX0_reckons_3 2 rfl rfl)
theorem dX0_reckons_77 : decode cX0_reckons 77 = .ok (.goto (-32), 3) := dk_167 255 224 (dk_at dksX0_reckons_3 5 rfl rfl)
theorem dX0_reckons_80 : decode cX0_reckons 80 = .ok (.iinc 2 1, 3) := dk_132 2 1 (dk_at dksX0_reckons_3 8 rfl rfl)
theorem dX0_reckons_83 : decode cX0_reckons 83 = .ok (.goto (-60), 3) := dk_167 255 196 (dk_at dksX0_reckons_3 11 rfl rfl)
theorem dX0_reckons_86 : decode cX0_reckons 86 = .ok (.iconst 0, 1) := dk_3 (dk_at dksX0_reckons_3 14 rfl rfl)
theorem dX0_reckons_87 : decode cX0_reckons 87 = .ok (.istore_n 2, 1) := dk_61 (dk_at dksX0_reckons_3 15 rfl rfl)
theorem dX0_reckons_88 : decode cX0_reckons 88 = .ok (.iconst 0, 1) := dk_3 (dk_at dksX0_reckons_3 16 rfl rfl)
theorem dX0_reckons_89 : decode cX0_reckons 89 = .ok (.istore_n 3, 1) := dk_62 (dk_at dksX0_reckons_3 17 rfl rfl)
theorem dX0_reckons_90 : decode cX0_reckons 90 = .ok (.iload_n 3, 1) := dk_29 (dk_at dksX0_reckons_3 18 rfl rfl)
theorem dX0_reckons_91 : decode cX0_reckons 91 = .ok (.bipush 8, 2) := dk_16 8 (dk_at dksX0_reckons_3 19 rfl rfl)
theorem dX0_reckons_93 : decode cX0_reckons 93 = .ok (.if_icmp .ge 36, 3) := dk_162 0 36 (dk_at dksX0_reckons_3 21 rfl rfl)
theorem dX0_reckons_96 : decode cX0_reckons 96 = .ok (.iload_n 2, 1) := dk_28 (dk_at dksX0_reckons_4 0 rfl rfl)
theorem dX0_reckons_97 : decode cX0_reckons 97 = .ok (.ifCond .ne 20, 3) := dk_154 0 20 (dk_at dksX0_reckons_4 1 rfl rfl)
theorem dX0_reckons_100 : decode cX0_reckons 100 = .ok (.aload_n 0, 1) := dk_42 (dk_at dksX0_reckons_4 4 rfl rfl)
theorem dX0_reckons_101 : decode cX0_reckons 101 = .ok (.getfield 10, 3) := dk_180 0 10 (dk_at dksX0_reckons_4 5 rfl rfl)
theorem dX0_reckons_104 : decode cX0_reckons 104 = .ok (.getfield 473, 3) := dk_180 1 217 (dk_at dksX0_reckons_4 8 rfl rfl)
theorem dX0_reckons_107 : decode cX0_reckons 107 = .ok (.bipush 8, 2) := dk_16 8 (dk_at dksX0_reckons_4 11 rfl rfl)
theorem dX0_reckons_109 : decode cX0_reckons 109 = .ok (.iload_n 1, 1) := dk_27 (dk_at dksX0_reckons_4 13 rfl rfl)
theorem dX0_reckons_110 : decode cX0_reckons 110 = .ok (.imul, 1) := dk_104 (dk_at dksX0_reckons_4 14 rfl rfl)
theorem dX0_reckons_111 : decode cX0_reckons 111 = .ok (.iload_n 3, 1) := dk_29 (dk_at dksX0_reckons_4 15 rfl rfl)
theorem dX0_reckons_112 : decode cX0_reckons 112 = .ok (.iadd, 1) := dk_96 (dk_at dksX0_reckons_4 16 rfl rfl)
theorem dX0_reckons_113 : decode cX0_reckons 113 = .ok (.baload, 1) := dk_51 (dk_at dksX0_reckons_4 17 rfl rfl)
theorem dX0_reckons_114 : decode cX0_reckons 114 = .ok (.ifCond .eq 7, 3) := dk_153 0 7 (dk_at dksX0_reckons_4 18 rfl rfl)
theorem dX0_reckons_117 : decode cX0_reckons 117 = .ok (.iconst 1, 1) := dk_4 (dk_at dksX0_reckons_4 21 rfl rfl)
theorem dX0_reckons_118 : decode cX0_reckons 118 = .ok (.goto 4, 3) := dk_167 0 4 (dk_at dksX0_reckons_5 0 rfl rfl)
theorem dX0_reckons_121 : decode cX0_reckons 121 = .ok (.iconst 0, 1) := dk_3 (dk_at dksX0_reckons_5 3 rfl rfl)
theorem dX0_reckons_122 : decode cX0_reckons 122 = .ok (.istore_n 2, 1) := dk_61 (dk_at dksX0_reckons_5 4 rfl rfl)
theorem dX0_reckons_123 : decode cX0_reckons 123 = .ok (.iinc 3 1, 3) := dk_132 3 1 (dk_at dksX0_reckons_5 5 rfl rfl)
theorem dX0_reckons_126 : decode cX0_reckons 126 = .ok (.goto (-36), 3) := dk_167 255 220 (dk_at dksX0_reckons_5 8 rfl rfl)
theorem dX0_reckons_129 : decode cX0_reckons 129 = .ok (.iconst 0, 1) := dk_3 (dk_at dksX0_reckons_5 11 rfl rfl)
theorem dX0_reckons_130 : decode cX0_reckons 130 = .ok (.istore_n 3, 1) := dk_62 (dk_at dksX0_reckons_5 12 rfl rfl)
theorem dX0_reckons_131 : decode cX0_reckons 131 = .ok (.iconst 0, 1) := dk_3 (dk_at dksX0_reckons_5 13 rfl rfl)
theorem dX0_reckons_132 : decode cX0_reckons 132 = .ok (.istore 4, 2) := dk_54 4 (dk_at dksX0_reckons_5 14 rfl rfl)
theorem dX0_reckons_134 : decode cX0_reckons 134 = .ok (.aload_n 0, 1) := dk_42 (dk_at dksX0_reckons_5 16 rfl rfl)
theorem dX0_reckons_135 : decode cX0_reckons 135 = .ok (.iconst (-1), 1) := dk_2 (dk_at dksX0_reckons_5 17 rfl rfl)
theorem dX0_reckons_136 : decode cX0_reckons 136 = .ok (.putfield 482, 3) := dk_181 1 226 (dk_at dksX0_reckons_5 18 rfl rfl)
theorem dX0_reckons_139 : decode cX0_reckons 139 = .ok (.iconst 0, 1) := dk_3 (dk_at dksX0_reckons_5 21 rfl rfl)
theorem dX0_reckons_140 : decode cX0_reckons 140 = .ok (.istore 5, 2) := dk_54 5 (dk_at dksX0_reckons_5 22 rfl rfl)
theorem dX0_reckons_142 : decode cX0_reckons 142 = .ok (.iload 5, 2) := dk_21 5 (dk_at dksX0_reckons_6 0 rfl rfl)
theorem dX0_reckons_144 : decode cX0_reckons 144 = .ok (.bipush 8, 2) := dk_16 8 (dk_at dksX0_reckons_6 2 rfl rfl)
theorem dX0_reckons_146 : decode cX0_reckons 146 = .ok (.if_icmp .ge 79, 3) := dk_162 0 79 (dk_at dksX0_reckons_6 4 rfl rfl)
theorem dX0_reckons_149 : decode cX0_reckons 149 = .ok (.iload_n 2, 1) := dk_28 (dk_at dksX0_reckons_6 7 rfl rfl)
theorem dX0_reckons_150 : decode cX0_reckons 150 = .ok (.ifCond .eq 24, 3) := dk_153 0 24 (dk_at dksX0_reckons_6 8 rfl rfl)
theorem dX0_reckons_153 : decode cX0_reckons 153 = .ok (.aload_n 0, 1) := dk_42 (dk_at dksX0_reckons_6 11 rfl rfl)
theorem dX0_reckons_154 : decode cX0_reckons 154 = .ok (.getfield 10, 3) := dk_180 0 10 (dk_at dksX0_reckons_6 12 rfl rfl)
theorem dX0_reckons_157 : decode cX0_reckons 157 = .ok (.getfield 473, 3) := dk_180 1 217 (dk_at dksX0_reckons_6 15 rfl rfl)
theorem dX0_reckons_160 : decode cX0_reckons 160 = .ok (.bipush 8, 2) := dk_16 8 (dk_at dksX0_reckons_6 18 rfl rfl)
theorem dX0_reckons_162 : decode cX0_reckons 162 = .ok (.iload_n 1, 1) := dk_27 (dk_at dksX0_reckons_6 20 rfl rfl)
theorem dX0_reckons_163 : decode cX0_reckons 163 = .ok (.imul, 1) := dk_104 (dk_at dksX0_reckons_6 21 rfl rfl)
theorem dX0_reckons_164 : decode cX0_reckons 164 = .ok (.iload 5, 2) := dk_21 5 (dk_at dksX0_reckons_6 22 rfl rfl)
theorem dX0_reckons_166 : decode cX0_reckons 166 = .ok (.iadd, 1) := dk_96 (dk_at dksX0_reckons_7 0 rfl rfl)
theorem dX0_reckons_167 : decode cX0_reckons 167 = .ok (.baload, 1) := dk_51 (dk_at dksX0_reckons_7 1 rfl rfl)
theorem dX0_reckons_168 : decode cX0_reckons 168 = .ok (.ifCond .ne 6, 3) := dk_154 0 6 (dk_at dksX0_reckons_7 2 rfl rfl)
theorem dX0_reckons_171 : decode cX0_reckons 171 = .ok (.goto 48, 3) := dk_167 0 48 (dk_at dksX0_reckons_7 5 rfl rfl)
theorem dX0_reckons_174 : decode cX0_reckons 174 = .ok (.aload_n 0, 1) := dk_42 (dk_at dksX0_reckons_7 8 rfl rfl)
theorem dX0_reckons_175 : decode cX0_reckons 175 = .ok (.getfield 89, 3) := dk_180 0 89 (dk_at dksX0_reckons_7 9 rfl rfl)
theorem dX0_reckons_178 : decode cX0_reckons 178 = .ok (.iload 5, 2) := dk_21 5 (dk_at dksX0_reckons_7 12 rfl rfl)
theorem dX0_reckons_180 : decode cX0_reckons 180 = .ok (.iaload, 1) := dk_46 (dk_at dksX0_reckons_7 14 rfl rfl)
theorem dX0_reckons_181 : decode cX0_reckons 181 = .ok (.iload_n 3, 1) := dk_29 (dk_at dksX0_reckons_7 15 rfl rfl)
theorem dX0_reckons_182 : decode cX0_reckons 182 = .ok (.if_icmp .le 23, 3) := dk_164 0 23 (dk_at dksX0_reckons_7 16 rfl rfl)
theorem dX0_reckons_185 : decode cX0_reckons 185 = .ok (.iload_n 3, 1) := dk_29 (dk_at dksX0_reckons_7 19 rfl rfl)
theorem dX0_reckons_186 : decode cX0_reckons 186 = .ok (.istore 4, 2) := dk_54 4 (dk_at dksX0_reckons_7 20 rfl rfl)
theorem dX0_reckons_188 : decode cX0_reckons 188 = .ok (.aload_n 0, 1) := dk_42 (dk_at dksX0_reckons_7 22 rfl rfl)
theorem dX0_reckons_189 : decode cX0_reckons 189 = .ok (.getfield 89, 3) := dk_180 0 89 (dk_at dksX0_reckons_8 0 rfl rfl)
theorem dX0_reckons_192 : decode cX0_reckons 192 = .ok (.iload 5, 2) := dk_21 5 (dk_at dksX0_reckons_8 3 rfl rfl)
theorem dX0_reckons_194 : decode cX0_reckons 194 = .ok (.iaload, 1) := dk_46 (dk_at dksX0_reckons_8 5 rfl rfl)
theorem dX0_reckons_195 : decode cX0_reckons 195 = .ok (.istore_n 3, 1) := dk_62 (dk_at dksX0_reckons_8 6 rfl rfl)
theorem dX0_reckons_196 : decode cX0_reckons 196 = .ok (.aload_n 0, 1) := dk_42 (dk_at dksX0_reckons_8 7 rfl rfl)
theorem dX0_reckons_197 : decode cX0_reckons 197 = .ok (.iload 5, 2) := dk_21 5 (dk_at dksX0_reckons_8 8 rfl rfl)
theorem dX0_reckons_199 : decode cX0_reckons 199 = .ok (.putfield 482, 3) := dk_181 1 226 (dk_at dksX0_reckons_8 10 rfl rfl)
theorem dX0_reckons_202 : decode cX0_reckons 202 = .ok (.goto 17, 3) := dk_167 0 17 (dk_at dksX0_reckons_8 13 rfl rfl)
theorem dX0_reckons_205 : decode cX0_reckons 205 = .ok (.iload 4, 2) := dk_21 4 (dk_at dksX0_reckons_8 16 rfl rfl)
theorem dX0_reckons_207 : decode cX0_reckons 207 = .ok (.aload_n 0, 1) := dk_42 (dk_at dksX0_reckons_8 18 rfl rfl)
theorem dX0_reckons_208 : decode cX0_reckons 208 = .ok (.getfield 89, 3) := dk_180 0 89 (dk_at dksX0_reckons_8 19 rfl rfl)
theorem dX0_reckons_211 : decode cX0_reckons 211 = .ok (.iload 5, 2) := dk_21 5 (dk_at dksX0_reckons_8 22 rfl rfl)
theorem dX0_reckons_213 : decode cX0_reckons 213 = .ok (.iaload, 1) := dk_46 (dk_at dksX0_reckons_9 0 rfl rfl)
theorem dX0_reckons_214 : decode cX0_reckons 214 = .ok (.invokestatic 485, 3) := dk_184 1 229 (dk_at dksX0_reckons_9 1 rfl rfl)
theorem dX0_reckons_217 : decode cX0_reckons 217 = .ok (.istore 4, 2) := dk_54 4 (dk_at dksX0_reckons_9 4 rfl rfl)
theorem dX0_reckons_219 : decode cX0_reckons 219 = .ok (.iinc 5 1, 3) := dk_132 5 1 (dk_at dksX0_reckons_9 6 rfl rfl)
theorem dX0_reckons_222 : decode cX0_reckons 222 = .ok (.goto (-80), 3) := dk_167 255 176 (dk_at dksX0_reckons_9 9 rfl rfl)
theorem dX0_reckons_225 : decode cX0_reckons 225 = .ok (.iload 4, 2) := dk_21 4 (dk_at dksX0_reckons_9 12 rfl rfl)
theorem dX0_reckons_227 : decode cX0_reckons 227 = .ok (.iload_n 3, 1) := dk_29 (dk_at dksX0_reckons_9 14 rfl rfl)
theorem dX0_reckons_228 : decode cX0_reckons 228 = .ok (.if_icmp .ne 8, 3) := dk_160 0 8 (dk_at dksX0_reckons_9 15 rfl rfl)
theorem dX0_reckons_231 : decode cX0_reckons 231 = .ok (.aload_n 0, 1) := dk_42 (dk_at dksX0_reckons_9 18 rfl rfl)
theorem dX0_reckons_232 : decode cX0_reckons 232 = .ok (.iconst (-1), 1) := dk_2 (dk_at dksX0_reckons_9 19 rfl rfl)
theorem dX0_reckons_233 : decode cX0_reckons 233 = .ok (.putfield 482, 3) := dk_181 1 226 (dk_at dksX0_reckons_9 20 rfl rfl)
theorem dX0_reckons_236 : decode cX0_reckons 236 = .ok (.aload_n 0, 1) := dk_42 (dk_at dksX0_reckons_9 23 rfl rfl)
theorem dX0_reckons_237 : decode cX0_reckons 237 = .ok (.aload_n 0, 1) := dk_42 (dk_at dksX0_reckons_10 0 rfl rfl)
theorem dX0_reckons_238 : decode cX0_reckons 238 = .ok (.getfield 482, 3) := dk_180 1 226 (dk_at dksX0_reckons_10 1 rfl rfl)
theorem dX0_reckons_241 : decode cX0_reckons 241 = .ok (.iconst (-1), 1) := dk_2 (dk_at dksX0_reckons_10 4 rfl rfl)
theorem dX0_reckons_242 : decode cX0_reckons 242 = .ok (.if_icmp .ne 7, 3) := dk_160 0 7 (dk_at dksX0_reckons_10 5 rfl rfl)
theorem dX0_reckons_245 : decode cX0_reckons 245 = .ok (.iconst 0, 1) := dk_3 (dk_at dksX0_reckons_10 8 rfl rfl)
theorem dX0_reckons_246 : decode cX0_reckons 246 = .ok (.goto 7, 3) := dk_167 0 7 (dk_at dksX0_reckons_10 9 rfl rfl)
theorem dX0_reckons_249 : decode cX0_reckons 249 = .ok (.iload_n 3, 1) := dk_29 (dk_at dksX0_reckons_10 12 rfl rfl)
theorem dX0_reckons_250 : decode cX0_reckons 250 = .ok (.iload 4, 2) := dk_21 4 (dk_at dksX0_reckons_10 13 rfl rfl)
theorem dX0_reckons_252 : decode cX0_reckons 252 = .ok (.isub, 1) := dk_100 (dk_at dksX0_reckons_10 15 rfl rfl)
theorem dX0_reckons_253 : decode cX0_reckons 253 = .ok (.putfield 487, 3) := dk_181 1 231 (dk_at dksX0_reckons_10 16 rfl rfl)
theorem dX0_reckons_256 : decode cX0_reckons 256 = .ok (.return_, 1) := dk_177 (dk_at dksX0_reckons_10 19 rfl rfl)
def dkwX0_seatOf_0 : List UInt8 := [42, 180, 0, 10, 180, 0, 160, 42, 180, 0, 10, 180, 1, 153, 27, 46, 46, 172]
abbrev dktX0_seatOf_0 : List UInt8 := dkwX0_seatOf_0 ++ []
theorem dksX0_seatOf_0 : cX0_seatOf.data.toList.drop 0 = dktX0_seatOf_0 := by decide +kernel
theorem dX0_seatOf_0 : decode cX0_seatOf 0 = .ok (.aload_n 0, 1) := dk_42 (dk_at dksX0_seatOf_0 0 rfl rfl)
theorem dX0_seatOf_1 : decode cX0_seatOf 1 = .ok (.getfield 10, 3) := dk_180 0 10 (dk_at dksX0_seatOf_0 1 rfl rfl)
theorem dX0_seatOf_4 : decode cX0_seatOf 4 = .ok (.getfield 160, 3) := dk_180 0 160 (dk_at dksX0_seatOf_0 4 rfl rfl)
theorem dX0_seatOf_7 : decode cX0_seatOf 7 = .ok (.aload_n 0, 1) := dk_42 (dk_at dksX0_seatOf_0 7 rfl rfl)
theorem dX0_seatOf_8 : decode cX0_seatOf 8 = .ok (.getfield 10, 3) := dk_180 0 10 (dk_at dksX0_seatOf_0 8 rfl rfl)
theorem dX0_seatOf_11 : decode cX0_seatOf 11 = .ok (.getfield 409, 3) := dk_180 1 153 (dk_at dksX0_seatOf_0 11 rfl rfl)
theorem dX0_seatOf_14 : decode cX0_seatOf 14 = .ok (.iload_n 1, 1) := dk_27 (dk_at dksX0_seatOf_0 14 rfl rfl)
theorem dX0_seatOf_15 : decode cX0_seatOf 15 = .ok (.iaload, 1) := dk_46 (dk_at dksX0_seatOf_0 15 rfl rfl)
theorem dX0_seatOf_16 : decode cX0_seatOf 16 = .ok (.iaload, 1) := dk_46 (dk_at dksX0_seatOf_0 16 rfl rfl)
theorem dX0_seatOf_17 : decode cX0_seatOf 17 = .ok (.ireturn, 1) := dk_172 (dk_at dksX0_seatOf_0 17 rfl rfl)
def dkwX0_doesHang_6 : List UInt8 := [167, 0, 4, 3, 172]
abbrev dktX0_doesHang_6 : List UInt8 := dkwX0_doesHang_6 ++ []
def dkwX0_doesHang_5 : List UInt8 := [21, 4, 46, 96, 61, 132, 4, 1, 167, 255, 140, 29, 153, 0, 15, 28, 42, 180, 1, 231, 161, 0, 7, 4]
abbrev dktX0_doesHang_5 : List UInt8 := dkwX0_doesHang_5 ++ dktX0_doesHang_6
def dkwX0_doesHang_4 : List UInt8 := [180, 0, 160, 21, 4, 46, 27, 159, 0, 6, 167, 0, 18, 4, 62, 28, 42, 180, 0, 47, 180, 1, 88]
abbrev dktX0_doesHang_4 : List UInt8 := dkwX0_doesHang_4 ++ dktX0_doesHang_5
def dkwX0_doesHang_3 : List UInt8 := [4, 167, 0, 4, 3, 54, 5, 132, 6, 1, 167, 255, 201, 21, 5, 153, 0, 35, 42, 180, 0, 10]
abbrev dktX0_doesHang_3 : List UInt8 := dkwX0_doesHang_3 ++ dktX0_doesHang_4
def dkwX0_doesHang_2 : List UInt8 := [180, 1, 153, 21, 6, 46, 21, 4, 160, 0, 20, 42, 180, 0, 85, 180, 1, 211, 21, 6, 51, 153, 0, 7]
abbrev dktX0_doesHang_2 : List UInt8 := dkwX0_doesHang_2 ++ dktX0_doesHang_3
def dkwX0_doesHang_1 : List UInt8 := [54, 6, 21, 6, 42, 180, 0, 10, 180, 0, 154, 162, 0, 49, 21, 5, 154, 0, 31, 42, 180, 0, 10]
abbrev dktX0_doesHang_1 : List UInt8 := dkwX0_doesHang_1 ++ dktX0_doesHang_2
def dkwX0_doesHang_0 : List UInt8 := [3, 61, 3, 62, 3, 54, 4, 21, 4, 42, 180, 0, 10, 180, 0, 141, 162, 0, 110, 3, 54, 5, 3]
abbrev dktX0_doesHang_0 : List UInt8 := dkwX0_doesHang_0 ++ dktX0_doesHang_1
theorem dksX0_doesHang_0 : cX0_doesHang.data.toList.drop 0 = dktX0_doesHang_0 := by decide +kernel
theorem dksX0_doesHang_1 : cX0_doesHang.data.toList.drop 23 = dktX0_doesHang_1 := dk_seg dksX0_doesHang_0 23 rfl rfl
theorem dksX0_doesHang_2 : cX0_doesHang.data.toList.drop 46 = dktX0_doesHang_2 := dk_seg dksX0_doesHang_1 23 rfl rfl
theorem dksX0_doesHang_3 : cX0_doesHang.data.toList.drop 70 = dktX0_doesHang_3 := dk_seg dksX0_doesHang_2 24 rfl rfl
theorem dksX0_doesHang_4 : cX0_doesHang.data.toList.drop 92 = dktX0_doesHang_4 := dk_seg dksX0_doesHang_3 22 rfl rfl
theorem dksX0_doesHang_5 : cX0_doesHang.data.toList.drop 115 = dktX0_doesHang_5 := dk_seg dksX0_doesHang_4 23 rfl rfl
theorem dksX0_doesHang_6 : cX0_doesHang.data.toList.drop 139 = dktX0_doesHang_6 := dk_seg dksX0_doesHang_5 24 rfl rfl
theorem dX0_doesHang_0 : decode cX0_doesHang 0 = .ok (.iconst 0, 1) := dk_3 (dk_at dksX0_doesHang_0 0 rfl rfl)
theorem dX0_doesHang_1 : decode cX0_doesHang 1 = .ok (.istore_n 2, 1) := dk_61 (dk_at dksX0_doesHang_0 1 rfl rfl)
theorem dX0_doesHang_2 : decode cX0_doesHang 2 = .ok (.iconst 0, 1) := dk_3 (dk_at dksX0_doesHang_0 2 rfl rfl)
theorem dX0_doesHang_3 : decode cX0_doesHang 3 = .ok (.istore_n 3, 1) := dk_62 (dk_at dksX0_doesHang_0 3 rfl rfl)
theorem dX0_doesHang_4 : decode cX0_doesHang 4 = .ok (.iconst 0, 1) := dk_3 (dk_at dksX0_doesHang_0 4 rfl rfl)
theorem dX0_doesHang_5 : decode cX0_doesHang 5 = .ok (.istore 4, 2) := dk_54 4 (dk_at dksX0_doesHang_0 5 rfl rfl)
theorem dX0_doesHang_7 : decode cX0_doesHang 7 = .ok (.iload 4, 2) := dk_21 4 (dk_at dksX0_doesHang_0 7 rfl rfl)
theorem dX0_doesHang_9 : decode cX0_doesHang 9 = .ok (.aload_n 0, 1) := dk_42 (dk_at dksX0_doesHang_0 9 rfl rfl)
theorem dX0_doesHang_10 : decode cX0_doesHang 10 = .ok (.getfield 10, 3) := dk_180 0 10 (dk_at dksX0_doesHang_0 10 rfl rfl)
theorem dX0_doesHang_13 : decode cX0_doesHang 13 = .ok (.getfield 141, 3) := dk_180 0 141 (dk_at dksX0_doesHang_0 13 rfl rfl)
theorem dX0_doesHang_16 : decode cX0_doesHang 16 = .ok (.if_icmp .ge 110, 3) := dk_162 0 110 (dk_at dksX0_doesHang_0 16 rfl rfl)
theorem dX0_doesHang_19 : decode cX0_doesHang 19 = .ok (.iconst 0, 1) := dk_3 (dk_at dksX0_doesHang_0 19 rfl rfl)
theorem dX0_doesHang_20 : decode cX0_doesHang 20 = .ok (.istore 5, 2) := dk_54 5 (dk_at dksX0_doesHang_0 20 rfl rfl)
theorem dX0_doesHang_22 : decode cX0_doesHang 22 = .ok (.iconst 0, 1) := dk_3 (dk_at dksX0_doesHang_0 22 rfl rfl)
theorem dX0_doesHang_23 : decode cX0_doesHang 23 = .ok (.istore 6, 2) := dk_54 6 (dk_at dksX0_doesHang_1 0 rfl rfl)
theorem dX0_doesHang_25 : decode cX0_doesHang 25 = .ok (.iload 6, 2) := dk_21 6 (dk_at dksX0_doesHang_1 2 rfl rfl)
theorem dX0_doesHang_27 : decode cX0_doesHang 27 = .ok (.aload_n 0, 1) := dk_42 (dk_at dksX0_doesHang_1 4 rfl rfl)
theorem dX0_doesHang_28 : decode cX0_doesHang 28 = .ok (.getfield 10, 3) := dk_180 0 10 (dk_at dksX0_doesHang_1 5 rfl rfl)
theorem dX0_doesHang_31 : decode cX0_doesHang 31 = .ok (.getfield 154, 3) := dk_180 0 154 (dk_at dksX0_doesHang_1 8 rfl rfl)
theorem dX0_doesHang_34 : decode cX0_doesHang 34 = .ok (.if_icmp .ge 49, 3) := dk_162 0 49 (dk_at dksX0_doesHang_1 11 rfl rfl)
theorem dX0_doesHang_37 : decode cX0_doesHang 37 = .ok (.iload 5, 2) := dk_21 5 (dk_at dksX0_doesHang_1 14 rfl rfl)
theorem dX0_doesHang_39 : decode cX0_doesHang 39 = .ok (.ifCond .ne 31, 3) := dk_154 0 31 (dk_at dksX0_doesHang_1 16 rfl rfl)
theorem dX0_doesHang_42 : decode cX0_doesHang 42 = .ok (.aload_n 0, 1) := dk_42 (dk_at dksX0_doesHang_1 19 rfl rfl)
theorem dX0_doesHang_43 : decode cX0_doesHang 43 = .ok (.getfield 10, 3) := dk_180 0 10 (dk_at dksX0_doesHang_1 20 rfl rfl)
theorem dX0_doesHang_46 : decode cX0_doesHang 46 = .ok (.getfield 409, 3) := dk_180 1 153 (dk_at dksX0_doesHang_2 0 rfl rfl)
theorem dX0_doesHang_49 : decode cX0_doesHang 49 = .ok (.iload 6, 2) := dk_21 6 (dk_at dksX0_doesHang_2 3 rfl rfl)
theorem dX0_doesHang_51 : decode cX0_doesHang 51 = .ok (.iaload, 1) := dk_46 (dk_at dksX0_doesHang_2 5 rfl rfl)
theorem dX0_doesHang_52 : decode cX0_doesHang 52 = .ok (.iload 4, 2) := dk_21 4 (dk_at dksX0_doesHang_2 6 rfl rfl)
theorem dX0_doesHang_54 : decode cX0_doesHang 54 = .ok (.if_icmp .ne 20, 3) := dk_160 0 20 (dk_at dksX0_doesHang_2 8 rfl rfl)
theorem dX0_doesHang_57 : decode cX0_doesHang 57 = .ok (.aload_n 0, 1) := dk_42 (dk_at dksX0_doesHang_2 11 rfl rfl)
theorem dX0_doesHang_58 : decode cX0_doesHang 58 = .ok (.getfield 85, 3) := dk_180 0 85 (dk_at dksX0_doesHang_2 12 rfl rfl)
theorem dX0_doesHang_61 : decode cX0_doesHang 61 = .ok (.getfield 467, 3) := dk_180 1 211 (dk_at dksX0_doesHang_2 15 rfl rfl)
theorem dX0_doesHang_64 : decode cX0_doesHang 64 = .ok (.iload 6, 2) := dk_21 6 (dk_at dksX0_doesHang_2 18 rfl rfl)
theorem dX0_doesHang_66 : decode cX0_doesHang 66 = .ok (.baload, 1) := dk_51 (dk_at dksX0_doesHang_2 20 rfl rfl)
theorem dX0_doesHang_67 : decode cX0_doesHang 67 = .ok (.ifCond .eq 7, 3) := dk_153 0 7 (dk_at dksX0_doesHang_2 21 rfl rfl)
theorem dX0_doesHang_70 : decode cX0_doesHang 70 = .ok (.iconst 1, 1) := dk_4 (dk_at dksX0_doesHang_3 0 rfl rfl)
theorem dX0_doesHang_71 : decode cX0_doesHang 71 = .ok (.goto 4, 3) := dk_167 0 4 (dk_at dksX0_doesHang_3 1 rfl rfl)
theorem dX0_doesHang_74 : decode cX0_doesHang 74 = .ok (.iconst 0, 1) := dk_3 (dk_at dksX0_doesHang_3 4 rfl rfl)
theorem dX0_doesHang_75 : decode cX0_doesHang 75 = .ok (.istore 5, 2) := dk_54 5 (dk_at dksX0_doesHang_3 5 rfl rfl)
theorem dX0_doesHang_77 : decode cX0_doesHang 77 = .ok (.iinc 6 1, 3) := dk_132 6 1 (dk_at dksX0_doesHang_3 7 rfl rfl)
theorem dX0_doesHang_80 : decode cX0_doesHang 80 = .ok (.goto (-55), 3) := dk_167 255 201 (dk_at dksX0_doesHang_3 10 rfl rfl)
theorem dX0_doesHang_83 : decode cX0_doesHang 83 = .ok (.iload 5, 2) := dk_21 5 (dk_at dksX0_doesHang_3 13 rfl rfl)
theorem dX0_doesHang_85 : decode cX0_doesHang 85 = .ok (.ifCond .eq 35, 3) := dk_153 0 35 (dk_at dksX0_doesHang_3 15 rfl rfl)
theorem dX0_doesHang_88 : decode cX0_doesHang 88 = .ok (.aload_n 0, 1) := dk_42 (dk_at dksX0_doesHang_3 18 rfl rfl)
theorem dX0_doesHang_89 : decode cX0_doesHang 89 = .ok (.getfield 10, 3) := dk_180 0 10 (dk_at dksX0_doesHang_3 19 rfl rfl)
theorem dX0_doesHang_92 : decode cX0_doesHang 92 = .ok (.getfield 160, 3) := dk_180 0 160 (dk_at dksX0_doesHang_4 0 rfl rfl)
theorem dX0_doesHang_95 : decode cX0_doesHang 95 = .ok (.iload 4, 2) := dk_21 4 (dk_at dksX0_doesHang_4 3 rfl rfl)
theorem dX0_doesHang_97 : decode cX0_doesHang 97 = .ok (.iaload, 1) := dk_46 (dk_at dksX0_doesHang_4 5 rfl rfl)
theorem dX0_doesHang_98 : decode cX0_doesHang 98 = .ok (.iload_n 1, 1) := dk_27 (dk_at dksX0_doesHang_4 6 rfl rfl)
theorem dX0_doesHang_99 : decode cX0_doesHang 99 = .ok (.if_icmp .eq 6, 3) := dk_159 0 6 (dk_at dksX0_doesHang_4 7 rfl rfl)
theorem dX0_doesHang_102 : decode cX0_doesHang 102 = .ok (.goto 18, 3) := dk_167 0 18 (dk_at dksX0_doesHang_4 10 rfl rfl)
theorem dX0_doesHang_105 : decode cX0_doesHang 105 = .ok (.iconst 1, 1) := dk_4 (dk_at dksX0_doesHang_4 13 rfl rfl)
theorem dX0_doesHang_106 : decode cX0_doesHang 106 = .ok (.istore_n 3, 1) := dk_62 (dk_at dksX0_doesHang_4 14 rfl rfl)
theorem dX0_doesHang_107 : decode cX0_doesHang 107 = .ok (.iload_n 2, 1) := dk_28 (dk_at dksX0_doesHang_4 15 rfl rfl)
theorem dX0_doesHang_108 : decode cX0_doesHang 108 = .ok (.aload_n 0, 1) := dk_42 (dk_at dksX0_doesHang_4 16 rfl rfl)
theorem dX0_doesHang_109 : decode cX0_doesHang 109 = .ok (.getfield 47, 3) := dk_180 0 47 (dk_at dksX0_doesHang_4 17 rfl rfl)
theorem dX0_doesHang_112 : decode cX0_doesHang 112 = .ok (.getfield 344, 3) := dk_180 1 88 (dk_at dksX0_doesHang_4 20 rfl rfl)
theorem dX0_doesHang_115 : decode cX0_doesHang 115 = .ok (.iload 4, 2) := dk_21 4 (dk_at dksX0_doesHang_5 0 rfl rfl)
theorem dX0_doesHang_117 : decode cX0_doesHang 117 = .ok (.iaload, 1) := dk_46 (dk_at dksX0_doesHang_5 2 rfl rfl)
theorem dX0_doesHang_118 : decode cX0_doesHang 118 = .ok (.iadd, 1) := dk_96 (dk_at dksX0_doesHang_5 3 rfl rfl)
theorem dX0_doesHang_119 : decode cX0_doesHang 119 = .ok (.istore_n 2, 1) := dk_61 (dk_at dksX0_doesHang_5 4 rfl rfl)
theorem dX0_doesHang_120 : decode cX0_doesHang 120 = .ok (.iinc 4 1, 3) := dk_132 4 1 (dk_at dksX0_doesHang_5 5 rfl rfl)
theorem dX0_doesHang_123 : decode cX0_doesHang 123 = .ok (.goto (-116), 3) := dk_167 255 140 (dk_at dksX0_doesHang_5 8 rfl rfl)
theorem dX0_doesHang_126 : decode cX0_doesHang 126 = .ok (.iload_n 3, 1) := dk_29 (dk_at dksX0_doesHang_5 11 rfl rfl)
theorem dX0_doesHang_127 : decode cX0_doesHang 127 = .ok (.ifCond .eq 15, 3) := dk_153 0 15 (dk_at dksX0_doesHang_5 12 rfl rfl)
theorem dX0_doesHang_130 : decode cX0_doesHang 130 = .ok (.iload_n 2, 1) := dk_28 (dk_at dksX0_doesHang_5 15 rfl rfl)
theorem dX0_doesHang_131 : decode cX0_doesHang 131 = .ok (.aload_n 0, 1) := dk_42 (dk_at dksX0_doesHang_5 16 rfl rfl)
theorem dX0_doesHang_132 : decode cX0_doesHang 132 = .ok (.getfield 487, 3) := dk_180 1 231 (dk_at dksX0_doesHang_5 17 rfl rfl)
theorem dX0_doesHang_135 : decode cX0_doesHang 135 = .ok (.if_icmp .lt 7, 3) := dk_161 0 7 (dk_at dksX0_doesHang_5 20 rfl rfl)
theorem dX0_doesHang_138 : decode cX0_doesHang 138 = .ok (.iconst 1, 1) := dk_4 (dk_at dksX0_doesHang_5 23 rfl rfl)
theorem dX0_doesHang_139 : decode cX0_doesHang 139 = .ok (.goto 4, 3) := dk_167 0 4 (dk_at dksX0_doesHang_6 0 rfl rfl)
theorem dX0_doesHang_142 : decode cX0_doesHang 142 = .ok (.iconst 0, 1) := dk_3 (dk_at dksX0_doesHang_6 3 rfl rfl)
theorem dX0_doesHang_143 : decode cX0_doesHang 143 = .ok (.ireturn, 1) := dk_172 (dk_at dksX0_doesHang_6 4 rfl rfl)
def dkwX0_hidden_6 : List UInt8 := [54, 6, 132, 7, 1, 167, 255, 185, 21, 6, 172]
abbrev dktX0_hidden_6 : List UInt8 := dkwX0_hidden_6 ++ []
def dkwX0_hidden_5 : List UInt8 := [154, 0, 21, 42, 180, 0, 85, 180, 1, 223, 16, 8, 21, 7, 104, 28, 96, 46, 167, 0, 4, 4, 96]
abbrev dktX0_hidden_5 : List UInt8 := dkwX0_hidden_5 ++ dktX0_hidden_6
def dkwX0_hidden_4 : List UInt8 := [2, 159, 0, 48, 42, 180, 0, 92, 21, 7, 46, 42, 180, 0, 92, 27, 46, 160, 0, 32, 21, 6, 21, 5]
abbrev dktX0_hidden_4 : List UInt8 := dkwX0_hidden_4 ++ dktX0_hidden_5
def dkwX0_hidden_3 : List UInt8 := [54, 6, 3, 54, 7, 21, 7, 42, 180, 0, 10, 180, 0, 154, 162, 0, 65, 42, 180, 0, 92, 21, 7, 46]
abbrev dktX0_hidden_3 : List UInt8 := dkwX0_hidden_3 ++ dktX0_hidden_4
def dkwX0_hidden_2 : List UInt8 := [180, 0, 85, 29, 21, 4, 182, 1, 202, 42, 42, 27, 182, 1, 220, 42, 29, 182, 1, 116, 182, 1, 243, 3]
abbrev dktX0_hidden_2 : List UInt8 := dkwX0_hidden_2 ++ dktX0_hidden_3
def dkwX0_hidden_1 : List UInt8 := [153, 0, 21, 21, 4, 184, 0, 201, 153, 0, 13, 21, 5, 3, 4, 184, 0, 127, 154, 0, 5, 2, 172, 42]
abbrev dktX0_hidden_1 : List UInt8 := dkwX0_hidden_1 ++ dktX0_hidden_2
def dkwX0_hidden_0 : List UInt8 := [42, 27, 182, 1, 160, 153, 0, 38, 28, 3, 16, 7, 184, 0, 127, 153, 0, 28, 29, 184, 0, 201]
abbrev dktX0_hidden_0 : List UInt8 := dkwX0_hidden_0 ++ dktX0_hidden_1
theorem dksX0_hidden_0 : cX0_hidden.data.toList.drop 0 = dktX0_hidden_0 := by decide +kernel
theorem dksX0_hidden_1 : cX0_hidden.data.toList.drop 22 = dktX0_hidden_1 := dk_seg dksX0_hidden_0 22 rfl rfl
theorem dksX0_hidden_2 : cX0_hidden.data.toList.drop 46 = dktX0_hidden_2 := dk_seg dksX0_hidden_1 24 rfl rfl
theorem dksX0_hidden_3 : cX0_hidden.data.toList.drop 70 = dktX0_hidden_3 := dk_seg dksX0_hidden_2 24 rfl rfl
theorem dksX0_hidden_4 : cX0_hidden.data.toList.drop 94 = dktX0_hidden_4 := dk_seg dksX0_hidden_3 24 rfl rfl
theorem dksX0_hidden_5 : cX0_hidden.data.toList.drop 118 = dktX0_hidden_5 := dk_seg dksX0_hidden_4 24 rfl rfl
theorem dksX0_hidden_6 : cX0_hidden.data.toList.drop 141 = dktX0_hidden_6 := dk_seg dksX0_hidden_5 23 rfl rfl
theorem dX0_hidden_0 : decode cX0_hidden 0 = .ok (.aload_n 0, 1) := dk_42 (dk_at dksX0_hidden_0 0 rfl rfl)
theorem dX0_hidden_1 : decode cX0_hidden 1 = .ok (.iload_n 1, 1) := dk_27 (dk_at dksX0_hidden_0 1 rfl rfl)
theorem dX0_hidden_2 : decode cX0_hidden 2 = .ok (.invokevirtual 416, 3) := dk_182 1 160 (dk_at dksX0_hidden_0 2 rfl rfl)
theorem dX0_hidden_5 : decode cX0_hidden 5 = .ok (.ifCond .eq 38, 3) := dk_153 0 38 (dk_at dksX0_hidden_0 5 rfl rfl)
theorem dX0_hidden_8 : decode cX0_hidden 8 = .ok (.iload_n 2, 1) := dk_28 (dk_at dksX0_hidden_0 8 rfl rfl)
theorem dX0_hidden_9 : decode cX0_hidden 9 = .ok (.iconst 0, 1) := dk_3 (dk_at dksX0_hidden_0 9 rfl rfl)
theorem dX0_hidden_10 : decode cX0_hidden 10 = .ok (.bipush 7, 2) := dk_16 7 (dk_at dksX0_hidden_0 10 rfl rfl)
theorem dX0_hidden_12 : decode cX0_hidden 12 = .ok (.invokestatic 127, 3) := dk_184 0 127 (dk_at dksX0_hidden_0 12 rfl rfl)
theorem dX0_hidden_15 : decode cX0_hidden 15 = .ok (.ifCond .eq 28, 3) := dk_153 0 28 (dk_at dksX0_hidden_0 15 rfl rfl)
theorem dX0_hidden_18 : decode cX0_hidden 18 = .ok (.iload_n 3, 1) := dk_29 (dk_at dksX0_hidden_0 18 rfl rfl)
theorem dX0_hidden_19 : decode cX0_hidden 19 = .ok (.invokestatic 201, 3) := dk_184 0 201 (dk_at dksX0_hidden_0 19 rfl rfl)
theorem dX0_hidden_22 : decode cX0_hidden 22 = .ok (.ifCond .eq 21, 3) := dk_153 0 21 (dk_at dksX0_hidden_1 0 rfl rfl)
theorem dX0_hidden_25 : decode cX0_hidden 25 = .ok (.iload 4, 2) := dk_21 4 (dk_at dksX0_hidden_1 3 rfl rfl)
theorem dX0_hidden_27 : decode cX0_hidden 27 = .ok (.invokestatic 201, 3) := dk_184 0 201 (dk_at dksX0_hidden_1 5 rfl rfl)
theorem dX0_hidden_30 : decode cX0_hidden 30 = .ok (.ifCond .eq 13, 3) := dk_153 0 13 (dk_at dksX0_hidden_1 8 rfl rfl)
theorem dX0_hidden_33 : decode cX0_hidden 33 = .ok (.iload 5, 2) := dk_21 5 (dk_at dksX0_hidden_1 11 rfl rfl)
theorem dX0_hidden_35 : decode cX0_hidden 35 = .ok (.iconst 0, 1) := dk_3 (dk_at dksX0_hidden_1 13 rfl rfl)
theorem dX0_hidden_36 : decode cX0_hidden 36 = .ok (.iconst 1, 1) := dk_4 (dk_at dksX0_hidden_1 14 rfl rfl)
theorem dX0_hidden_37 : decode cX0_hidden 37 = .ok (.invokestatic 127, 3) := dk_184 0 127 (dk_at dksX0_hidden_1 15 rfl rfl)
theorem dX0_hidden_40 : decode cX0_hidden 40 = .ok (.ifCond .ne 5, 3) := dk_154 0 5 (dk_at dksX0_hidden_1 18 rfl rfl)
theorem dX0_hidden_43 : decode cX0_hidden 43 = .ok (.iconst (-1), 1) := dk_2 (dk_at dksX0_hidden_1 21 rfl rfl)
theorem dX0_hidden_44 : decode cX0_hidden 44 = .ok (.ireturn, 1) := dk_172 (dk_at dksX0_hidden_1 22 rfl rfl)
theorem dX0_hidden_45 : decode cX0_hidden 45 = .ok (.aload_n 0, 1) := dk_42 (dk_at dksX0_hidden_1 23 rfl rfl)
theorem dX0_hidden_46 : decode cX0_hidden 46 = .ok (.getfield 85, 3) := dk_180 0 85 (dk_at dksX0_hidden_2 0 rfl rfl)
theorem dX0_hidden_49 : decode cX0_hidden 49 = .ok (.iload_n 3, 1) := dk_29 (dk_at dksX0_hidden_2 3 rfl rfl)
theorem dX0_hidden_50 : decode cX0_hidden 50 = .ok (.iload 4, 2) := dk_21 4 (dk_at dksX0_hidden_2 4 rfl rfl)
theorem dX0_hidden_52 : decode cX0_hidden 52 = .ok (.invokevirtual 458, 3) := dk_182 1 202 (dk_at dksX0_hidden_2 6 rfl rfl)
theorem dX0_hidden_55 : decode cX0_hidden 55 = .ok (.aload_n 0, 1) := dk_42 (dk_at dksX0_hidden_2 9 rfl rfl)
theorem dX0_hidden_56 : decode cX0_hidden 56 = .ok (.aload_n 0, 1) := dk_42 (dk_at dksX0_hidden_2 10 rfl rfl)
theorem dX0_hidden_57 : decode cX0_hidden 57 = .ok (.iload_n 1, 1) := dk_27 (dk_at dksX0_hidden_2 11 rfl rfl)
theorem dX0_hidden_58 : decode cX0_hidden 58 = .ok (.invokevirtual 476, 3) := dk_182 1 220 (dk_at dksX0_hidden_2 12 rfl rfl)
theorem dX0_hidden_61 : decode cX0_hidden 61 = .ok (.aload_n 0, 1) := dk_42 (dk_at dksX0_hidden_2 15 rfl rfl)
theorem dX0_hidden_62 : decode cX0_hidden 62 = .ok (.iload_n 3, 1) := dk_29 (dk_at dksX0_hidden_2 16 rfl rfl)
theorem dX0_hidden_63 : decode cX0_hidden 63 = .ok (.invokevirtual 372, 3) := dk_182 1 116 (dk_at dksX0_hidden_2 17 rfl rfl)
theorem dX0_hidden_66 : decode cX0_hidden 66 = .ok (.invokevirtual 499, 3) := dk_182 1 243 (dk_at dksX0_hidden_2 20 rfl rfl)
theorem dX0_hidden_69 : decode cX0_hidden 69 = .ok (.iconst 0, 1) := dk_3 (dk_at dksX0_hidden_2 23 rfl rfl)
theorem dX0_hidden_70 : decode cX0_hidden 70 = .ok (.istore 6, 2) := dk_54 6 (dk_at dksX0_hidden_3 0 rfl rfl)
theorem dX0_hidden_72 : decode cX0_hidden 72 = .ok (.iconst 0, 1) := dk_3 (dk_at dksX0_hidden_3 2 rfl rfl)
theorem dX0_hidden_73 : decode cX0_hidden 73 = .ok (.istore 7, 2) := dk_54 7 (dk_at dksX0_hidden_3 3 rfl rfl)
theorem dX0_hidden_75 : decode cX0_hidden 75 = .ok (.iload 7, 2) := dk_21 7 (dk_at dksX0_hidden_3 5 rfl rfl)
theorem dX0_hidden_77 : decode cX0_hidden 77 = .ok (.aload_n 0, 1) := dk_42 (dk_at dksX0_hidden_3 7 rfl rfl)
theorem dX0_hidden_78 : decode cX0_hidden 78 = .ok (.getfield 10, 3) := dk_180 0 10 (dk_at dksX0_hidden_3 8 rfl rfl)
theorem dX0_hidden_81 : decode cX0_hidden 81 = .ok (.getfield 154, 3) := dk_180 0 154 (dk_at dksX0_hidden_3 11 rfl rfl)
theorem dX0_hidden_84 : decode cX0_hidden 84 = .ok (.if_icmp .ge 65, 3) := dk_162 0 65 (dk_at dksX0_hidden_3 14 rfl rfl)
theorem dX0_hidden_87 : decode cX0_hidden 87 = .ok (.aload_n 0, 1) := dk_42 (dk_at dksX0_hidden_3 17 rfl rfl)
theorem dX0_hidden_88 : decode cX0_hidden 88 = .ok (.getfield 92, 3) := dk_180 0 92 (dk_at dksX0_hidden_3 18 rfl rfl)
theorem dX0_hidden_91 : decode cX0_hidden 91 = .ok (.iload 7, 2) := dk_21 7 (dk_at dksX0_hidden_3 21 rfl rfl)
theorem dX0_hidden_93 : decode cX0_hidden 93 = .ok (.iaload, 1) := dk_46 (dk_at dksX0_hidden_3 23 rfl rfl)
theorem dX0_hidden_94 : decode cX0_hidden 94 = .ok (.iconst (-1), 1) := dk_2 (dk_at dksX0_hidden_4 0 rfl rfl)
theorem dX0_hidden_95 : decode cX0_hidden 95 = .ok (.if_icmp .eq 48, 3) := dk_159 0 48 (dk_at dksX0_hidden_4 1 rfl rfl)
theorem dX0_hidden_98 : decode cX0_hidden 98 = .ok (.aload_n 0, 1) := dk_42 (dk_at dksX0_hidden_4 4 rfl rfl)
theorem dX0_hidden_99 : decode cX0_hidden 99 = .ok (.getfield 92, 3) := dk_180 0 92 (dk_at dksX0_hidden_4 5 rfl rfl)
theorem dX0_hidden_102 : decode cX0_hidden 102 = .ok (.iload 7, 2) := dk_21 7 (dk_at dksX0_hidden_4 8 rfl rfl)
theorem dX0_hidden_104 : decode cX0_hidden 104 = .ok (.iaload, 1) := dk_46 (dk_at dksX0_hidden_4 10 rfl rfl)
theorem dX0_hidden_105 : decode cX0_hidden 105 = .ok (.aload_n 0, 1) := dk_42 (dk_at dksX0_hidden_4 11 rfl rfl)
theorem dX0_hidden_106 : decode cX0_hidden 106 = .ok (.getfield 92, 3) := dk_180 0 92 (dk_at dksX0_hidden_4 12 rfl rfl)
theorem dX0_hidden_109 : decode cX0_hidden 109 = .ok (.iload_n 1, 1) := dk_27 (dk_at dksX0_hidden_4 15 rfl rfl)
theorem dX0_hidden_110 : decode cX0_hidden 110 = .ok (.iaload, 1) := dk_46 (dk_at dksX0_hidden_4 16 rfl rfl)
theorem dX0_hidden_111 : decode cX0_hidden 111 = .ok (.if_icmp .ne 32, 3) := dk_160 0 32 (dk_at dksX0_hidden_4 17 rfl rfl)
theorem dX0_hidden_114 : decode cX0_hidden 114 = .ok (.iload 6, 2) := dk_21 6 (dk_at dksX0_hidden_4 20 rfl rfl)
theorem dX0_hidden_116 : decode cX0_hidden 116 = .ok (.iload 5, 2) := dk_21 5 (dk_at dksX0_hidden_4 22 rfl rfl)
theorem dX0_hidden_118 : decode cX0_hidden 118 = .ok (.ifCond .ne 21, 3) := dk_154 0 21 (dk_at dksX0_hidden_5 0 rfl rfl)
theorem dX0_hidden_121 : decode cX0_hidden 121 = .ok (.aload_n 0, 1) := dk_42 (dk_at dksX0_hidden_5 3 rfl rfl)
theorem dX0_hidden_122 : decode cX0_hidden 122 = .ok (.getfield 85, 3) := dk_180 0 85 (dk_at dksX0_hidden_5 4 rfl rfl)
theorem dX0_hidden_125 : decode cX0_hidden 125 = .ok (.getfield 479, 3) := dk_180 1 223 (dk_at dksX0_hidden_5 7 rfl rfl)
theorem dX0_hidden_128 : decode cX0_hidden 128 = .ok (.bipush 8, 2) := dk_16 8 (dk_at dksX0_hidden_5 10 rfl rfl)
theorem dX0_hidden_130 : decode cX0_hidden 130 = .ok (.iload 7, 2) := dk_21 7 (dk_at dksX0_hidden_5 12 rfl rfl)
theorem dX0_hidden_132 : decode cX0_hidden 132 = .ok (.imul, 1) := dk_104 (dk_at dksX0_hidden_5 14 rfl rfl)
theorem dX0_hidden_133 : decode cX0_hidden 133 = .ok (.iload_n 2, 1) := dk_28 (dk_at dksX0_hidden_5 15 rfl rfl)
theorem dX0_hidden_134 : decode cX0_hidden 134 = .ok (.iadd, 1) := dk_96 (dk_at dksX0_hidden_5 16 rfl rfl)
theorem dX0_hidden_135 : decode cX0_hidden 135 = .ok (.iaload, 1) := dk_46 (dk_at dksX0_hidden_5 17 rfl rfl)
theorem dX0_hidden_136 : decode cX0_hidden 136 = .ok (.goto 4, 3) := dk_167 0 4 (dk_at dksX0_hidden_5 18 rfl rfl)
theorem dX0_hidden_139 : decode cX0_hidden 139 = .ok (.iconst 1, 1) := dk_4 (dk_at dksX0_hidden_5 21 rfl rfl)
theorem dX0_hidden_140 : decode cX0_hidden 140 = .ok (.iadd, 1) := dk_96 (dk_at dksX0_hidden_5 22 rfl rfl)
theorem dX0_hidden_141 : decode cX0_hidden 141 = .ok (.istore 6, 2) := dk_54 6 (dk_at dksX0_hidden_6 0 rfl rfl)
theorem dX0_hidden_143 : decode cX0_hidden 143 = .ok (.iinc 7 1, 3) := dk_132 7 1 (dk_at dksX0_hidden_6 2 rfl rfl)
theorem dX0_hidden_146 : decode cX0_hidden 146 = .ok (.goto (-71), 3) := dk_167 255 185 (dk_at dksX0_hidden_6 5 rfl rfl)
theorem dX0_hidden_149 : decode cX0_hidden 149 = .ok (.iload 6, 2) := dk_21 6 (dk_at dksX0_hidden_6 8 rfl rfl)
theorem dX0_hidden_151 : decode cX0_hidden 151 = .ok (.ireturn, 1) := dk_172 (dk_at dksX0_hidden_6 10 rfl rfl)
def dkwX0_hides_9 : List UInt8 := [21, 6, 21, 4, 79, 132, 6, 1, 167, 255, 221, 177]
abbrev dktX0_hides_9 : List UInt8 := dkwX0_hides_9 ++ []
def dkwX0_hides_8 : List UInt8 := [180, 0, 10, 180, 0, 154, 162, 0, 29, 42, 180, 0, 92, 21, 6, 46, 29, 160, 0, 12, 42, 180, 0, 92]
abbrev dktX0_hides_8 : List UInt8 := dkwX0_hides_8 ++ dktX0_hides_9
def dkwX0_hides_7 : List UInt8 := [132, 6, 1, 167, 255, 102, 29, 2, 159, 0, 9, 21, 4, 2, 160, 0, 4, 177, 3, 54, 6, 21, 6, 42]
abbrev dktX0_hides_7 : List UInt8 := dkwX0_hides_7 ++ dktX0_hides_8
def dkwX0_hides_6 : List UInt8 := [132, 7, 1, 167, 255, 220, 42, 21, 5, 28, 182, 1, 240, 154, 0, 6, 167, 0, 8, 29, 54, 4, 2, 62]
abbrev dktX0_hides_6 : List UInt8 := dkwX0_hides_6 ++ dktX0_hides_7
def dkwX0_hides_5 : List UInt8 := [21, 7, 92, 46, 42, 180, 0, 85, 180, 1, 223, 16, 8, 21, 6, 104, 21, 7, 96, 46, 96, 79]
abbrev dktX0_hides_5 : List UInt8 := dkwX0_hides_5 ++ dktX0_hides_6
def dkwX0_hides_4 : List UInt8 := [180, 1, 205, 21, 6, 46, 96, 54, 5, 3, 54, 7, 21, 7, 16, 8, 162, 0, 35, 42, 180, 0, 95]
abbrev dktX0_hides_4 : List UInt8 := dkwX0_hides_4 ++ dktX0_hides_5
def dkwX0_hides_3 : List UInt8 := [21, 7, 3, 79, 132, 7, 1, 167, 255, 238, 42, 180, 0, 92, 21, 6, 29, 79, 21, 5, 42, 180, 0, 85]
abbrev dktX0_hides_3 : List UInt8 := dkwX0_hides_3 ++ dktX0_hides_4
def dkwX0_hides_2 : List UInt8 := [160, 0, 33, 21, 6, 62, 3, 54, 5, 3, 54, 7, 21, 7, 16, 8, 162, 0, 17, 42, 180, 0, 95]
abbrev dktX0_hides_2 : List UInt8 := dkwX0_hides_2 ++ dktX0_hides_3
def dkwX0_hides_1 : List UInt8 := [180, 0, 92, 21, 6, 2, 79, 42, 21, 6, 182, 1, 220, 27, 159, 0, 6, 167, 0, 121, 29, 2]
abbrev dktX0_hides_1 : List UInt8 := dkwX0_hides_1 ++ dktX0_hides_2
def dkwX0_hides_0 : List UInt8 := [2, 62, 2, 54, 4, 3, 54, 5, 3, 54, 6, 21, 6, 42, 180, 0, 10, 180, 0, 154, 162, 0, 148, 42]
abbrev dktX0_hides_0 : List UInt8 := dkwX0_hides_0 ++ dktX0_hides_1
theorem dksX0_hides_0 : cX0_hides.data.toList.drop 0 = dktX0_hides_0 := by decide +kernel
theorem dksX0_hides_1 : cX0_hides.data.toList.drop 24 = dktX0_hides_1 := dk_seg dksX0_hides_0 24 rfl rfl
theorem dksX0_hides_2 : cX0_hides.data.toList.drop 46 = dktX0_hides_2 := dk_seg dksX0_hides_1 22 rfl rfl
theorem dksX0_hides_3 : cX0_hides.data.toList.drop 69 = dktX0_hides_3 := dk_seg dksX0_hides_2 23 rfl rfl
theorem dksX0_hides_4 : cX0_hides.data.toList.drop 93 = dktX0_hides_4 := dk_seg dksX0_hides_3 24 rfl rfl
theorem dksX0_hides_5 : cX0_hides.data.toList.drop 116 = dktX0_hides_5 := dk_seg dksX0_hides_4 23 rfl rfl
theorem dksX0_hides_6 : cX0_hides.data.toList.drop 138 = dktX0_hides_6 := dk_seg dksX0_hides_5 22 rfl rfl
theorem dksX0_hides_7 : cX0_hides.data.toList.drop 162 = dktX0_hides_7 := dk_seg dksX0_hides_6 24 rfl rfl
theorem dksX0_hides_8 : cX0_hides.data.toList.drop 186 = dktX0_hides_8 := dk_seg dksX0_hides_7 24 rfl rfl
theorem dksX0_hides_9 : cX0_hides.data.toList.drop 210 = dktX0_hides_9 := dk_seg dksX0_hides_8 24 rfl rfl
theorem dX0_hides_0 : decode cX0_hides 0 = .ok (.iconst (-1), 1) := dk_2 (dk_at dksX0_hides_0 0 rfl rfl)
theorem dX0_hides_1 : decode cX0_hides 1 = .ok (.istore_n 3, 1) := dk_62 (dk_at dksX0_hides_0 1 rfl rfl)
theorem dX0_hides_2 : decode cX0_hides 2 = .ok (.iconst (-1), 1) := dk_2 (dk_at dksX0_hides_0 2 rfl rfl)
theorem dX0_hides_3 : decode cX0_hides 3 = .ok (.istore 4, 2) := dk_54 4 (dk_at dksX0_hides_0 3 rfl rfl)
theorem dX0_hides_5 : decode cX0_hides 5 = .ok (.iconst 0, 1) := dk_3 (dk_at dksX0_hides_0 5 rfl rfl)
theorem dX0_hides_6 : decode cX0_hides 6 = .ok (.istore 5, 2) := dk_54 5 (dk_at dksX0_hides_0 6 rfl rfl)
theorem dX0_hides_8 : decode cX0_hides 8 = .ok (.iconst 0, 1) := dk_3 (dk_at dksX0_hides_0 8 rfl rfl)
theorem dX0_hides_9 : decode cX0_hides 9 = .ok (.istore 6, 2) := dk_54 6 (dk_at dksX0_hides_0 9 rfl rfl)
theorem dX0_hides_11 : decode cX0_hides 11 = .ok (.iload 6, 2) := dk_21 6 (dk_at dksX0_hides_0 11 rfl rfl)
theorem dX0_hides_13 : decode cX0_hides 13 = .ok (.aload_n 0, 1) := dk_42 (dk_at dksX0_hides_0 13 rfl rfl)
theorem dX0_hides_14 : decode cX0_hides 14 = .ok (.getfield 10, 3) := dk_180 0 10 (dk_at dksX0_hides_0 14 rfl rfl)
theorem dX0_hides_17 : decode cX0_hides 17 = .ok (.getfield 154, 3) := dk_180 0 154 (dk_at dksX0_hides_0 17 rfl rfl)
theorem dX0_hides_20 : decode cX0_hides 20 = .ok (.if_icmp .ge 148, 3) := dk_162 0 148 (dk_at dksX0_hides_0 20 rfl rfl)
theorem dX0_hides_23 : decode cX0_hides 23 = .ok (.aload_n 0, 1) := dk_42 (dk_at dksX0_hides_0 23 rfl rfl)
theorem dX0_hides_24 : decode cX0_hides 24 = .ok (.getfield 92, 3) := dk_180 0 92 (dk_at dksX0_hides_1 0 rfl rfl)
theorem dX0_hides_27 : decode cX0_hides 27 = .ok (.iload 6, 2) := dk_21 6 (dk_at dksX0_hides_1 3 rfl rfl)
theorem dX0_hides_29 : decode cX0_hides 29 = .ok (.iconst (-1), 1) := dk_2 (dk_at dksX0_hides_1 5 rfl rfl)
theorem dX0_hides_30 : decode cX0_hides 30 = .ok (.iastore, 1) := dk_79 (dk_at dksX0_hides_1 6 rfl rfl)
theorem dX0_hides_31 : decode cX0_hides 31 = .ok (.aload_n 0, 1) := dk_42 (dk_at dksX0_hides_1 7 rfl rfl)
theorem dX0_hides_32 : decode cX0_hides 32 = .ok (.iload 6, 2) := dk_21 6 (dk_at dksX0_hides_1 8 rfl rfl)
theorem dX0_hides_34 : decode cX0_hides 34 = .ok (.invokevirtual 476, 3) := dk_182 1 220 (dk_at dksX0_hides_1 10 rfl rfl)
theorem dX0_hides_37 : decode cX0_hides 37 = .ok (.iload_n 1, 1) := dk_27 (dk_at dksX0_hides_1 13 rfl rfl)
theorem dX0_hides_38 : decode cX0_hides 38 = .ok (.if_icmp .eq 6, 3) := dk_159 0 6 (dk_at dksX0_hides_1 14 rfl rfl)
theorem dX0_hides_41 : decode cX0_hides 41 = .ok (.goto 121, 3) := dk_167 0 121 (dk_at dksX0_hides_1 17 rfl rfl)
theorem dX0_hides_44 : decode cX0_hides 44 = .ok (.iload_n 3, 1) := dk_29 (dk_at dksX0_hides_1 20 rfl rfl)
theorem dX0_hides_45 : decode cX0_hides 45 = .ok (.iconst (-1), 1) := dk_2 (dk_at dksX0_hides_1 21 rfl rfl)
theorem dX0_hides_46 : decode cX0_hides 46 = .ok (.if_icmp .ne 33, 3) := dk_160 0 33 (dk_at dksX0_hides_2 0 rfl rfl)
theorem dX0_hides_49 : decode cX0_hides 49 = .ok (.iload 6, 2) := dk_21 6 (dk_at dksX0_hides_2 3 rfl rfl)
theorem dX0_hides_51 : decode cX0_hides 51 = .ok (.istore_n 3, 1) := dk_62 (dk_at dksX0_hides_2 5 rfl rfl)
theorem dX0_hides_52 : decode cX0_hides 52 = .ok (.iconst 0, 1) := dk_3 (dk_at dksX0_hides_2 6 rfl rfl)
theorem dX0_hides_53 : decode cX0_hides 53 = .ok (.istore 5, 2) := dk_54 5 (dk_at dksX0_hides_2 7 rfl rfl)
theorem dX0_hides_55 : decode cX0_hides 55 = .ok (.iconst 0, 1) := dk_3 (dk_at dksX0_hides_2 9 rfl rfl)
theorem dX0_hides_56 : decode cX0_hides 56 = .ok (.istore 7, 2) := dk_54 7 (dk_at dksX0_hides_2 10 rfl rfl)
theorem dX0_hides_58 : decode cX0_hides 58 = .ok (.iload 7, 2) := dk_21 7 (dk_at dksX0_hides_2 12 rfl rfl)
theorem dX0_hides_60 : decode cX0_hides 60 = .ok (.bipush 8, 2) := dk_16 8 (dk_at dksX0_hides_2 14 rfl rfl)
theorem dX0_hides_62 : decode cX0_hides 62 = .ok (.if_icmp .ge 17, 3) := dk_162 0 17 (dk_at dksX0_hides_2 16 rfl rfl)
theorem dX0_hides_65 : decode cX0_hides 65 = .ok (.aload_n 0, 1) := dk_42 (dk_at dksX0_hides_2 19 rfl rfl)
theorem dX0_hides_66 : decode cX0_hides 66 = .ok (.getfield 95, 3) := dk_180 0 95 (dk_at dksX0_hides_2 20 rfl rfl)
theorem dX0_hides_69 : decode cX0_hides 69 = .ok (.iload 7, 2) := dk_21 7 (dk_at dksX0_hides_3 0 rfl rfl)
theorem dX0_hides_71 : decode cX0_hides 71 = .ok (.iconst 0, 1) := dk_3 (dk_at dksX0_hides_3 2 rfl rfl)
theorem dX0_hides_72 : decode cX0_hides 72 = .ok (.iastore, 1) := dk_79 (dk_at dksX0_hides_3 3 rfl rfl)
theorem dX0_hides_73 : decode cX0_hides 73 = .ok (.iinc 7 1, 3) := dk_132 7 1 (dk_at dksX0_hides_3 4 rfl rfl)
theorem dX0_hides_76 : decode cX0_hides 76 = .ok (.goto (-18), 3) := dk_167 255 238 (dk_at dksX0_hides_3 7 rfl rfl)
theorem dX0_hides_79 : decode cX0_hides 79 = .ok (.aload_n 0, 1) := dk_42 (dk_at dksX0_hides_3 10 rfl rfl)
theorem dX0_hides_80 : decode cX0_hides 80 = .ok (.getfield 92, 3) := dk_180 0 92 (dk_at dksX0_hides_3 11 rfl rfl)
theorem dX0_hides_83 : decode cX0_hides 83 = .ok (.iload 6, 2) := dk_21 6 (dk_at dksX0_hides_3 14 rfl rfl)
theorem dX0_hides_85 : decode cX0_hides 85 = .ok (.iload_n 3, 1) := dk_29 (dk_at dksX0_hides_3 16 rfl rfl)
theorem dX0_hides_86 : decode cX0_hides 86 = .ok (.iastore, 1) := dk_79 (dk_at dksX0_hides_3 17 rfl rfl)
theorem dX0_hides_87 : decode cX0_hides 87 = .ok (.iload 5, 2) := dk_21 5 (dk_at dksX0_hides_3 18 rfl rfl)
theorem dX0_hides_89 : decode cX0_hides 89 = .ok (.aload_n 0, 1) := dk_42 (dk_at dksX0_hides_3 20 rfl rfl)
theorem dX0_hides_90 : decode cX0_hides 90 = .ok (.getfield 85, 3) := dk_180 0 85 (dk_at dksX0_hides_3 21 rfl rfl)
theorem dX0_hides_93 : decode cX0_hides 93 = .ok (.getfield 461, 3) := dk_180 1 205 (dk_at dksX0_hides_4 0 rfl rfl)
theorem dX0_hides_96 : decode cX0_hides 96 = .ok (.iload 6, 2) := dk_21 6 (dk_at dksX0_hides_4 3 rfl rfl)
theorem dX0_hides_98 : decode cX0_hides 98 = .ok (.iaload, 1) := dk_46 (dk_at dksX0_hides_4 5 rfl rfl)
theorem dX0_hides_99 : decode cX0_hides 99 = .ok (.iadd, 1) := dk_96 (dk_at dksX0_hides_4 6 rfl rfl)
theorem dX0_hides_100 : decode cX0_hides 100 = .ok (.istore 5, 2) := dk_54 5 (dk_at dksX0_hides_4 7 rfl rfl)
theorem dX0_hides_102 : decode cX0_hides 102 = .ok (.iconst 0, 1) := dk_3 (dk_at dksX0_hides_4 9 rfl rfl)
theorem dX0_hides_103 : decode cX0_hides 103 = .ok (.istore 7, 2) := dk_54 7 (dk_at dksX0_hides_4 10 rfl rfl)
theorem dX0_hides_105 : decode cX0_hides 105 = .ok (.iload 7, 2) := dk_21 7 (dk_at dksX0_hides_4 12 rfl rfl)
theorem dX0_hides_107 : decode cX0_hides 107 = .ok (.bipush 8, 2) := dk_16 8 (dk_at dksX0_hides_4 14 rfl rfl)
theorem dX0_hides_109 : decode cX0_hides 109 = .ok (.if_icmp .ge 35, 3) := dk_162 0 35 (dk_at dksX0_hides_4 16 rfl rfl)
theorem dX0_hides_112 : decode cX0_hides 112 = .ok (.aload_n 0, 1) := dk_42 (dk_at dksX0_hides_4 19 rfl rfl)
theorem dX0_hides_113 : decode cX0_hides 113 = .ok (.getfield 95, 3) := dk_180 0 95 (dk_at dksX0_hides_4 20 rfl rfl)
theorem dX0_hides_116 : decode cX0_hides 116 = .ok (.iload 7, 2) := dk_21 7 (dk_at dksX0_hides_5 0 rfl rfl)
theorem dX0_hides_118 : decode cX0_hides 118 = .ok (.dup2, 1) := dk_92 (dk_at dksX0_hides_5 2 rfl rfl)
theorem dX0_hides_119 : decode cX0_hides 119 = .ok (.iaload, 1) := dk_46 (dk_at dksX0_hides_5 3 rfl rfl)
theorem dX0_hides_120 : decode cX0_hides 120 = .ok (.aload_n 0, 1) := dk_42 (dk_at dksX0_hides_5 4 rfl rfl)
theorem dX0_hides_121 : decode cX0_hides 121 = .ok (.getfield 85, 3) := dk_180 0 85 (dk_at dksX0_hides_5 5 rfl rfl)
theorem dX0_hides_124 : decode cX0_hides 124 = .ok (.getfield 479, 3) := dk_180 1 223 (dk_at dksX0_hides_5 8 rfl rfl)
theorem dX0_hides_127 : decode cX0_hides 127 = .ok (.bipush 8, 2) := dk_16 8 (dk_at dksX0_hides_5 11 rfl rfl)
theorem dX0_hides_129 : decode cX0_hides 129 = .ok (.iload 6, 2) := dk_21 6 (dk_at dksX0_hides_5 13 rfl rfl)
theorem dX0_hides_131 : decode cX0_hides 131 = .ok (.imul, 1) := dk_104 (dk_at dksX0_hides_5 15 rfl rfl)
theorem dX0_hides_132 : decode cX0_hides 132 = .ok (.iload 7, 2) := dk_21 7 (dk_at dksX0_hides_5 16 rfl rfl)
theorem dX0_hides_134 : decode cX0_hides 134 = .ok (.iadd, 1) := dk_96 (dk_at dksX0_hides_5 18 rfl rfl)
theorem dX0_hides_135 : decode cX0_hides 135 = .ok (.iaload, 1) := dk_46 (dk_at dksX0_hides_5 19 rfl rfl)
theorem dX0_hides_136 : decode cX0_hides 136 = .ok (.iadd, 1) := dk_96 (dk_at dksX0_hides_5 20 rfl rfl)
theorem dX0_hides_137 : decode cX0_hides 137 = .ok (.iastore, 1) := dk_79 (dk_at dksX0_hides_5 21 rfl rfl)
theorem dX0_hides_138 : decode cX0_hides 138 = .ok (.iinc 7 1, 3) := dk_132 7 1 (dk_at dksX0_hides_6 0 rfl rfl)
theorem dX0_hides_141 : decode cX0_hides 141 = .ok (.goto (-36), 3) := dk_167 255 220 (dk_at dksX0_hides_6 3 rfl rfl)
theorem dX0_hides_144 : decode cX0_hides 144 = .ok (.aload_n 0, 1) := dk_42 (dk_at dksX0_hides_6 6 rfl rfl)
theorem dX0_hides_145 : decode cX0_hides 145 = .ok (.iload 5, 2) := dk_21 5 (dk_at dksX0_hides_6 7 rfl rfl)
theorem dX0_hides_147 : decode cX0_hides 147 = .ok (.iload_n 2, 1) := dk_28 (dk_at dksX0_hides_6 9 rfl rfl)
theorem dX0_hides_148 : decode cX0_hides 148 = .ok (.invokevirtual 496, 3) := dk_182 1 240 (dk_at dksX0_hides_6 10 rfl rfl)
theorem dX0_hides_151 : decode cX0_hides 151 = .ok (.ifCond .ne 6, 3) := dk_154 0 6 (dk_at dksX0_hides_6 13 rfl rfl)
theorem dX0_hides_154 : decode cX0_hides 154 = .ok (.goto 8, 3) := dk_167 0 8 (dk_at dksX0_hides_6 16 rfl rfl)
theorem dX0_hides_157 : decode cX0_hides 157 = .ok (.iload_n 3, 1) := dk_29 (dk_at dksX0_hides_6 19 rfl rfl)
theorem dX0_hides_158 : decode cX0_hides 158 = .ok (.istore 4, 2) := dk_54 4 (dk_at dksX0_hides_6 20 rfl rfl)
theorem dX0_hides_160 : decode cX0_hides 160 = .ok (.iconst (-1), 1) := dk_2 (dk_at dksX0_hides_6 22 rfl rfl)
theorem dX0_hides_161 : decode cX0_hides 161 = .ok (.istore_n 3, 1) := dk_62 (dk_at dksX0_hides_6 23 rfl rfl)
theorem dX0_hides_162 : decode cX0_hides 162 = .ok (.iinc 6 1, 3) := dk_132 6 1 (dk_at dksX0_hides_7 0 rfl rfl)
theorem dX0_hides_165 : decode cX0_hides 165 = .ok (.goto (-154), 3) := dk_167 255 102 (dk_at dksX0_hides_7 3 rfl rfl)
theorem dX0_hides_168 : decode cX0_hides 168 = .ok (.iload_n 3, 1) := dk_29 (dk_at dksX0_hides_7 6 rfl rfl)
theorem dX0_hides_169 : decode cX0_hides 169 = .ok (.iconst (-1), 1) := dk_2 (dk_at dksX0_hides_7 7 rfl rfl)
theorem dX0_hides_170 : decode cX0_hides 170 = .ok (.if_icmp .eq 9, 3) := dk_159 0 9 (dk_at dksX0_hides_7 8 rfl rfl)
theorem dX0_hides_173 : decode cX0_hides 173 = .ok (.iload 4, 2) := dk_21 4 (dk_at dksX0_hides_7 11 rfl rfl)
theorem dX0_hides_175 : decode cX0_hides 175 = .ok (.iconst (-1), 1) := dk_2 (dk_at dksX0_hides_7 13 rfl rfl)
theorem dX0_hides_176 : decode cX0_hides 176 = .ok (.if_icmp .ne 4, 3) := dk_160 0 4 (dk_at dksX0_hides_7 14 rfl rfl)
theorem dX0_hides_179 : decode cX0_hides 179 = .ok (.return_, 1) := dk_177 (dk_at dksX0_hides_7 17 rfl rfl)
theorem dX0_hides_180 : decode cX0_hides 180 = .ok (.iconst 0, 1) := dk_3 (dk_at dksX0_hides_7 18 rfl rfl)
theorem dX0_hides_181 : decode cX0_hides 181 = .ok (.istore 6, 2) := dk_54 6 (dk_at dksX0_hides_7 19 rfl rfl)
theorem dX0_hides_183 : decode cX0_hides 183 = .ok (.iload 6, 2) := dk_21 6 (dk_at dksX0_hides_7 21 rfl rfl)
theorem dX0_hides_185 : decode cX0_hides 185 = .ok (.aload_n 0, 1) := dk_42 (dk_at dksX0_hides_7 23 rfl rfl)
theorem dX0_hides_186 : decode cX0_hides 186 = .ok (.getfield 10, 3) := dk_180 0 10 (dk_at dksX0_hides_8 0 rfl rfl)
theorem dX0_hides_189 : decode cX0_hides 189 = .ok (.getfield 154, 3) := dk_180 0 154 (dk_at dksX0_hides_8 3 rfl rfl)
theorem dX0_hides_192 : decode cX0_hides 192 = .ok (.if_icmp .ge 29, 3) := dk_162 0 29 (dk_at dksX0_hides_8 6 rfl rfl)
theorem dX0_hides_195 : decode cX0_hides 195 = .ok (.aload_n 0, 1) := dk_42 (dk_at dksX0_hides_8 9 rfl rfl)
theorem dX0_hides_196 : decode cX0_hides 196 = .ok (.getfield 92, 3) := dk_180 0 92 (dk_at dksX0_hides_8 10 rfl rfl)
theorem dX0_hides_199 : decode cX0_hides 199 = .ok (.iload 6, 2) := dk_21 6 (dk_at dksX0_hides_8 13 rfl rfl)
theorem dX0_hides_201 : decode cX0_hides 201 = .ok (.iaload, 1) := dk_46 (dk_at dksX0_hides_8 15 rfl rfl)
theorem dX0_hides_202 : decode cX0_hides 202 = .ok (.iload_n 3, 1) := dk_29 (dk_at dksX0_hides_8 16 rfl rfl)
theorem dX0_hides_203 : decode cX0_hides 203 = .ok (.if_icmp .ne 12, 3) := dk_160 0 12 (dk_at dksX0_hides_8 17 rfl rfl)
theorem dX0_hides_206 : decode cX0_hides 206 = .ok (.aload_n 0, 1) := dk_42 (dk_at dksX0_hides_8 20 rfl rfl)
theorem dX0_hides_207 : decode cX0_hides 207 = .ok (.getfield 92, 3) := dk_180 0 92 (dk_at dksX0_hides_8 21 rfl rfl)
theorem dX0_hides_210 : decode cX0_hides 210 = .ok (.iload 6, 2) := dk_21 6 (dk_at dksX0_hides_9 0 rfl rfl)
theorem dX0_hides_212 : decode cX0_hides 212 = .ok (.iload 4, 2) := dk_21 4 (dk_at dksX0_hides_9 2 rfl rfl)
theorem dX0_hides_214 : decode cX0_hides 214 = .ok (.iastore, 1) := dk_79 (dk_at dksX0_hides_9 4 rfl rfl)
theorem dX0_hides_215 : decode cX0_hides 215 = .ok (.iinc 6 1, 3) := dk_132 6 1 (dk_at dksX0_hides_9 5 rfl rfl)
theorem dX0_hides_218 : decode cX0_hides 218 = .ok (.goto (-35), 3) := dk_167 255 221 (dk_at dksX0_hides_9 8 rfl rfl)
theorem dX0_hides_221 : decode cX0_hides 221 = .ok (.return_, 1) := dk_177 (dk_at dksX0_hides_9 11 rfl rfl)
def dkwX0_mayTell_2 : List UInt8 := [167, 0, 4, 3, 172]
abbrev dktX0_mayTell_2 : List UInt8 := dkwX0_mayTell_2 ++ []
def dkwX0_mayTell_1 : List UInt8 := [167, 0, 4, 3, 96, 62, 132, 4, 1, 167, 255, 228, 27, 28, 161, 0, 12, 29, 5, 161, 0, 7, 4]
abbrev dktX0_mayTell_1 : List UInt8 := dkwX0_mayTell_1 ++ dktX0_mayTell_2
def dkwX0_mayTell_0 : List UInt8 := [3, 62, 3, 54, 4, 21, 4, 16, 8, 162, 0, 27, 29, 42, 180, 0, 95, 21, 4, 46, 158, 0, 7, 4]
abbrev dktX0_mayTell_0 : List UInt8 := dkwX0_mayTell_0 ++ dktX0_mayTell_1
theorem dksX0_mayTell_0 : cX0_mayTell.data.toList.drop 0 = dktX0_mayTell_0 := by decide +kernel
theorem dksX0_mayTell_1 : cX0_mayTell.data.toList.drop 24 = dktX0_mayTell_1 := dk_seg dksX0_mayTell_0 24 rfl rfl
theorem dksX0_mayTell_2 : cX0_mayTell.data.toList.drop 47 = dktX0_mayTell_2 := dk_seg dksX0_mayTell_1 23 rfl rfl
theorem dX0_mayTell_0 : decode cX0_mayTell 0 = .ok (.iconst 0, 1) := dk_3 (dk_at dksX0_mayTell_0 0 rfl rfl)
theorem dX0_mayTell_1 : decode cX0_mayTell 1 = .ok (.istore_n 3, 1) := dk_62 (dk_at dksX0_mayTell_0 1 rfl rfl)
theorem dX0_mayTell_2 : decode cX0_mayTell 2 = .ok (.iconst 0, 1) := dk_3 (dk_at dksX0_mayTell_0 2 rfl rfl)
theorem dX0_mayTell_3 : decode cX0_mayTell 3 = .ok (.istore 4, 2) := dk_54 4 (dk_at dksX0_mayTell_0 3 rfl rfl)
theorem dX0_mayTell_5 : decode cX0_mayTell 5 = .ok (.iload 4, 2) := dk_21 4 (dk_at dksX0_mayTell_0 5 rfl rfl)
theorem dX0_mayTell_7 : decode cX0_mayTell 7 = .ok (.bipush 8, 2) := dk_16 8 (dk_at dksX0_mayTell_0 7 rfl rfl)
theorem dX0_mayTell_9 : decode cX0_mayTell 9 = .ok (.if_icmp .ge 27, 3) := dk_162 0 27 (dk_at dksX0_mayTell_0 9 rfl rfl)
theorem dX0_mayTell_12 : decode cX0_mayTell 12 = .ok (.iload_n 3, 1) := dk_29 (dk_at dksX0_mayTell_0 12 rfl rfl)
theorem dX0_mayTell_13 : decode cX0_mayTell 13 = .ok (.aload_n 0, 1) := dk_42 (dk_at dksX0_mayTell_0 13 rfl rfl)
theorem dX0_mayTell_14 : decode cX0_mayTell 14 = .ok (.getfield 95, 3) := dk_180 0 95 (dk_at dksX0_mayTell_0 14 rfl rfl)
theorem dX0_mayTell_17 : decode cX0_mayTell 17 = .ok (.iload 4, 2) := dk_21 4 (dk_at dksX0_mayTell_0 17 rfl rfl)
theorem dX0_mayTell_19 : decode cX0_mayTell 19 = .ok (.iaload, 1) := dk_46 (dk_at dksX0_mayTell_0 19 rfl rfl)
theorem dX0_mayTell_20 : decode cX0_mayTell 20 = .ok (.ifCond .le 7, 3) := dk_158 0 7 (dk_at dksX0_mayTell_0 20 rfl rfl)
theorem dX0_mayTell_23 : decode cX0_mayTell 23 = .ok (.iconst 1, 1) := dk_4 (dk_at dksX0_mayTell_0 23 rfl rfl)
theorem dX0_mayTell_24 : decode cX0_mayTell 24 = .ok (.goto 4, 3) := dk_167 0 4 (dk_at dksX0_mayTell_1 0 rfl rfl)
theorem dX0_mayTell_27 : decode cX0_mayTell 27 = .ok (.iconst 0, 1) := dk_3 (dk_at dksX0_mayTell_1 3 rfl rfl)
theorem dX0_mayTell_28 : decode cX0_mayTell 28 = .ok (.iadd, 1) := dk_96 (dk_at dksX0_mayTell_1 4 rfl rfl)
theorem dX0_mayTell_29 : decode cX0_mayTell 29 = .ok (.istore_n 3, 1) := dk_62 (dk_at dksX0_mayTell_1 5 rfl rfl)
theorem dX0_mayTell_30 : decode cX0_mayTell 30 = .ok (.iinc 4 1, 3) := dk_132 4 1 (dk_at dksX0_mayTell_1 6 rfl rfl)
theorem dX0_mayTell_33 : decode cX0_mayTell 33 = .ok (.goto (-28), 3) := dk_167 255 228 (dk_at dksX0_mayTell_1 9 rfl rfl)
theorem dX0_mayTell_36 : decode cX0_mayTell 36 = .ok (.iload_n 1, 1) := dk_27 (dk_at dksX0_mayTell_1 12 rfl rfl)
theorem dX0_mayTell_37 : decode cX0_mayTell 37 = .ok (.iload_n 2, 1) := dk_28 (dk_at dksX0_mayTell_1 13 rfl rfl)
theorem dX0_mayTell_38 : decode cX0_mayTell 38 = .ok (.if_icmp .lt 12, 3) := dk_161 0 12 (dk_at dksX0_mayTell_1 14 rfl rfl)
theorem dX0_mayTell_41 : decode cX0_mayTell 41 = .ok (.iload_n 3, 1) := dk_29 (dk_at dksX0_mayTell_1 17 rfl rfl)
theorem dX0_mayTell_42 : decode cX0_mayTell 42 = .ok (.iconst 2, 1) := dk_5 (dk_at dksX0_mayTell_1 18 rfl rfl)
theorem dX0_mayTell_43 : decode cX0_mayTell 43 = .ok (.if_icmp .lt 7, 3) := dk_161 0 7 (dk_at dksX0_mayTell_1 19 rfl rfl)
theorem dX0_mayTell_46 : decode cX0_mayTell 46 = .ok (.iconst 1, 1) := dk_4 (dk_at dksX0_mayTell_1 22 rfl rfl)
theorem dX0_mayTell_47 : decode cX0_mayTell 47 = .ok (.goto 4, 3) := dk_167 0 4 (dk_at dksX0_mayTell_2 0 rfl rfl)
theorem dX0_mayTell_50 : decode cX0_mayTell 50 = .ok (.iconst 0, 1) := dk_3 (dk_at dksX0_mayTell_2 3 rfl rfl)
theorem dX0_mayTell_51 : decode cX0_mayTell 51 = .ok (.ireturn, 1) := dk_172 (dk_at dksX0_mayTell_2 4 rfl rfl)
def dkwX0_shares_13 : List UInt8 := [172]
abbrev dktX0_shares_13 : List UInt8 := dkwX0_shares_13 ++ []
def dkwX0_shares_12 : List UInt8 := [21, 8, 21, 9, 28, 160, 0, 7, 4, 167, 0, 4, 3, 96, 54, 8, 132, 7, 255, 167, 255, 181, 21, 8]
abbrev dktX0_shares_12 : List UInt8 := dkwX0_shares_12 ++ dktX0_shares_13
def dkwX0_shares_11 : List UInt8 := [158, 0, 7, 21, 10, 54, 9, 132, 10, 1, 167, 255, 224, 42, 180, 0, 98, 21, 9, 20, 1, 246, 80]
abbrev dktX0_shares_11 : List UInt8 := dkwX0_shares_11 ++ dktX0_shares_12
def dkwX0_shares_10 : List UInt8 := [54, 10, 21, 10, 16, 8, 162, 0, 31, 42, 180, 0, 98, 21, 10, 47, 42, 180, 0, 98, 21, 9, 47, 148]
abbrev dktX0_shares_10 : List UInt8 := dkwX0_shares_10 ++ dktX0_shares_11
def dkwX0_shares_9 : List UInt8 := [21, 10, 167, 0, 4, 3, 96, 54, 8, 132, 9, 1, 167, 255, 184, 21, 7, 158, 0, 76, 3, 54, 9, 4]
abbrev dktX0_shares_9 : List UInt8 := dkwX0_shares_9 ++ dktX0_shares_10
def dkwX0_shares_8 : List UInt8 := [21, 9, 46, 133, 105, 22, 5, 113, 80, 21, 7, 21, 10, 100, 54, 7, 21, 8, 21, 9, 28, 160, 0, 8]
abbrev dktX0_shares_8 : List UInt8 := dkwX0_shares_8 ++ dktX0_shares_9
def dkwX0_shares_7 : List UInt8 := [21, 9, 46, 133, 105, 22, 5, 109, 136, 54, 10, 42, 180, 0, 98, 21, 9, 27, 133, 42, 180, 0, 89]
abbrev dktX0_shares_7 : List UInt8 := dkwX0_shares_7 ++ dktX0_shares_8
def dkwX0_shares_6 : List UInt8 := [172, 27, 54, 7, 3, 54, 8, 3, 54, 9, 21, 9, 16, 8, 162, 0, 71, 27, 133, 42, 180, 0, 89]
abbrev dktX0_shares_6 : List UInt8 := dkwX0_shares_6 ++ dktX0_shares_7
def dkwX0_shares_5 : List UInt8 := [180, 0, 89, 21, 7, 46, 133, 97, 55, 5, 132, 7, 1, 167, 255, 178, 22, 5, 9, 148, 154, 0, 5, 2]
abbrev dktX0_shares_5 : List UInt8 := dkwX0_shares_5 ++ dktX0_shares_6
def dkwX0_shares_4 : List UInt8 := [180, 1, 223, 16, 8, 21, 8, 104, 21, 7, 96, 46, 96, 79, 132, 8, 1, 167, 255, 215, 22, 5, 42]
abbrev dktX0_shares_4 : List UInt8 := dkwX0_shares_4 ++ dktX0_shares_5
def dkwX0_shares_3 : List UInt8 := [21, 8, 42, 180, 0, 10, 180, 0, 154, 162, 0, 35, 42, 180, 0, 89, 21, 7, 92, 46, 42, 180, 0, 85]
abbrev dktX0_shares_3 : List UInt8 := dkwX0_shares_3 ++ dktX0_shares_4
def dkwX0_shares_2 : List UInt8 := [55, 5, 3, 54, 7, 21, 7, 16, 8, 162, 0, 77, 42, 180, 0, 89, 21, 7, 3, 79, 3, 54, 8]
abbrev dktX0_shares_2 : List UInt8 := dkwX0_shares_2 ++ dktX0_shares_3
def dkwX0_shares_1 : List UInt8 := [153, 0, 11, 21, 4, 184, 0, 201, 154, 0, 5, 2, 172, 42, 180, 0, 85, 29, 21, 4, 182, 1, 202, 9]
abbrev dktX0_shares_1 : List UInt8 := dkwX0_shares_1 ++ dktX0_shares_2
def dkwX0_shares_0 : List UInt8 := [27, 4, 16, 20, 184, 0, 127, 153, 0, 28, 28, 3, 16, 7, 184, 0, 127, 153, 0, 18, 29, 184, 0, 201]
abbrev dktX0_shares_0 : List UInt8 := dkwX0_shares_0 ++ dktX0_shares_1
theorem dksX0_shares_0 : cX0_shares.data.toList.drop 0 = dktX0_shares_0 := by decide +kernel
theorem dksX0_shares_1 : cX0_shares.data.toList.drop 24 = dktX0_shares_1 := dk_seg dksX0_shares_0 24 rfl rfl
theorem dksX0_shares_2 : cX0_shares.data.toList.drop 48 = dktX0_shares_2 := dk_seg dksX0_shares_1 24 rfl rfl
theorem dksX0_shares_3 : cX0_shares.data.toList.drop 71 = dktX0_shares_3 := dk_seg dksX0_shares_2 23 rfl rfl
theorem dksX0_shares_4 : cX0_shares.data.toList.drop 95 = dktX0_shares_4 := dk_seg dksX0_shares_3 24 rfl rfl
theorem dksX0_shares_5 : cX0_shares.data.toList.drop 118 = dktX0_shares_5 := dk_seg dksX0_shares_4 23 rfl rfl
theorem dksX0_shares_6 : cX0_shares.data.toList.drop 142 = dktX0_shares_6 := dk_seg dksX0_shares_5 24 rfl rfl
theorem dksX0_shares_7 : cX0_shares.data.toList.drop 165 = dktX0_shares_7 := dk_seg dksX0_shares_6 23 rfl rfl
theorem dksX0_shares_8 : cX0_shares.data.toList.drop 188 = dktX0_shares_8 := dk_seg dksX0_shares_7 23 rfl rfl
theorem dksX0_shares_9 : cX0_shares.data.toList.drop 212 = dktX0_shares_9 := dk_seg dksX0_shares_8 24 rfl rfl
theorem dksX0_shares_10 : cX0_shares.data.toList.drop 236 = dktX0_shares_10 := dk_seg dksX0_shares_9 24 rfl rfl
theorem dksX0_shares_11 : cX0_shares.data.toList.drop 260 = dktX0_shares_11 := dk_seg dksX0_shares_10 24 rfl rfl
theorem dksX0_shares_12 : cX0_shares.data.toList.drop 283 = dktX0_shares_12 := dk_seg dksX0_shares_11 23 rfl rfl
theorem dksX0_shares_13 : cX0_shares.data.toList.drop 307 = dktX0_shares_13 := dk_seg dksX0_shares_12 24 rfl rfl
theorem dX0_shares_0 : decode cX0_shares 0 = .ok (.iload_n 1, 1) := dk_27 (dk_at dksX0_shares_0 0 rfl rfl)
theorem dX0_shares_1 : decode cX0_shares 1 = .ok (.iconst 1, 1) := dk_4 (dk_at dksX0_shares_0 1 rfl rfl)
theorem dX0_shares_2 : decode cX0_shares 2 = .ok (.bipush 20, 2) := dk_16 20 (dk_at dksX0_shares_0 2 rfl rfl)
theorem dX0_shares_4 : decode cX0_shares 4 = .ok (.invokestatic 127, 3) := dk_184 0 127 (dk_at dksX0_shares_0 4 rfl rfl)
theorem dX0_shares_7 : decode cX0_shares 7 = .ok (.ifCond .eq 28, 3) := dk_153 0 28 (dk_at dksX0_shares_0 7 rfl rfl)
theorem dX0_shares_10 : decode cX0_shares 10 = .ok (.iload_n 2, 1) := dk_28 (dk_at dksX0_shares_0 10 rfl rfl)
theorem dX0_shares_11 : decode cX0_shares 11 = .ok (.iconst 0, 1) := dk_3 (dk_at dksX0_shares_0 11 rfl rfl)
theorem dX0_shares_12 : decode cX0_shares 12 = .ok (.bipush 7, 2) := dk_16 7 (dk_at dksX0_shares_0 12 rfl rfl)
theorem dX0_shares_14 : decode cX0_shares 14 = .ok (.invokestatic 127, 3) := dk_184 0 127 (dk_at dksX0_shares_0 14 rfl rfl)
theorem dX0_shares_17 : decode cX0_shares 17 = .ok (.ifCond .eq 18, 3) := dk_153 0 18 (dk_at dksX0_shares_0 17 rfl rfl)
theorem dX0_shares_20 : decode cX0_shares 20 = .ok (.iload_n 3, 1) := dk_29 (dk_at dksX0_shares_0 20 rfl rfl)
theorem dX0_shares_21 : decode cX0_shares 21 = .ok (.invokestatic 201, 3) := dk_184 0 201 (dk_at dksX0_shares_0 21 rfl rfl)
theorem dX0_shares_24 : decode cX0_shares 24 = .ok (.ifCond .eq 11, 3) := dk_153 0 11 (dk_at dksX0_shares_1 0 rfl rfl)
theorem dX0_shares_27 : decode cX0_shares 27 = .ok (.iload 4, 2) := dk_21 4 (dk_at dksX0_shares_1 3 rfl rfl)
theorem dX0_shares_29 : decode cX0_shares 29 = .ok (.invokestatic 201, 3) := dk_184 0 201 (dk_at dksX0_shares_1 5 rfl rfl)
theorem dX0_shares_32 : decode cX0_shares 32 = .ok (.ifCond .ne 5, 3) := dk_154 0 5 (dk_at dksX0_shares_1 8 rfl rfl)
theorem dX0_shares_35 : decode cX0_shares 35 = .ok (.iconst (-1), 1) := dk_2 (dk_at dksX0_shares_1 11 rfl rfl)
theorem dX0_shares_36 : decode cX0_shares 36 = .ok (.ireturn, 1) := dk_172 (dk_at dksX0_shares_1 12 rfl rfl)
theorem dX0_shares_37 : decode cX0_shares 37 = .ok (.aload_n 0, 1) := dk_42 (dk_at dksX0_shares_1 13 rfl rfl)
theorem dX0_shares_38 : decode cX0_shares 38 = .ok (.getfield 85, 3) := dk_180 0 85 (dk_at dksX0_shares_1 14 rfl rfl)
theorem dX0_shares_41 : decode cX0_shares 41 = .ok (.iload_n 3, 1) := dk_29 (dk_at dksX0_shares_1 17 rfl rfl)
theorem dX0_shares_42 : decode cX0_shares 42 = .ok (.iload 4, 2) := dk_21 4 (dk_at dksX0_shares_1 18 rfl rfl)
theorem dX0_shares_44 : decode cX0_shares 44 = .ok (.invokevirtual 458, 3) := dk_182 1 202 (dk_at dksX0_shares_1 20 rfl rfl)
theorem dX0_shares_47 : decode cX0_shares 47 = .ok (.lconst 0, 1) := dk_9 (dk_at dksX0_shares_1 23 rfl rfl)
theorem dX0_shares_48 : decode cX0_shares 48 = .ok (.lstore 5, 2) := dk_55 5 (dk_at dksX0_shares_2 0 rfl rfl)
theorem dX0_shares_50 : decode cX0_shares 50 = .ok (.iconst 0, 1) := dk_3 (dk_at dksX0_shares_2 2 rfl rfl)
theorem dX0_shares_51 : decode cX0_shares 51 = .ok (.istore 7, 2) := dk_54 7 (dk_at dksX0_shares_2 3 rfl rfl)
theorem dX0_shares_53 : decode cX0_shares 53 = .ok (.iload 7, 2) := dk_21 7 (dk_at dksX0_shares_2 5 rfl rfl)
theorem dX0_shares_55 : decode cX0_shares 55 = .ok (.bipush 8, 2) := dk_16 8 (dk_at dksX0_shares_2 7 rfl rfl)
theorem dX0_shares_57 : decode cX0_shares 57 = .ok (.if_icmp .ge 77, 3) := dk_162 0 77 (dk_at dksX0_shares_2 9 rfl rfl)
theorem dX0_shares_60 : decode cX0_shares 60 = .ok (.aload_n 0, 1) := dk_42 (dk_at dksX0_shares_2 12 rfl rfl)
theorem dX0_shares_61 : decode cX0_shares 61 = .ok (.getfield 89, 3) := dk_180 0 89 (dk_at dksX0_shares_2 13 rfl rfl)
theorem dX0_shares_64 : decode cX0_shares 64 = .ok (.iload 7, 2) := dk_21 7 (dk_at dksX0_shares_2 16 rfl rfl)
theorem dX0_shares_66 : decode cX0_shares 66 = .ok (.iconst 0, 1) := dk_3 (dk_at dksX0_shares_2 18 rfl rfl)
theorem dX0_shares_67 : decode cX0_shares 67 = .ok (.iastore, 1) := dk_79 (dk_at dksX0_shares_2 19 rfl rfl)
theorem dX0_shares_68 : decode cX0_shares 68 = .ok (.iconst 0, 1) := dk_3 (dk_at dksX0_shares_2 20 rfl rfl)
theorem dX0_shares_69 : decode cX0_shares 69 = .ok (.istore 8, 2) := dk_54 8 (dk_at dksX0_shares_2 21 rfl rfl)
theorem dX0_shares_71 : decode cX0_shares 71 = .ok (.iload 8, 2) := dk_21 8 (dk_at dksX0_shares_3 0 rfl rfl)
theorem dX0_shares_73 : decode cX0_shares 73 = .ok (.aload_n 0, 1) := dk_42 (dk_at dksX0_shares_3 2 rfl rfl)
theorem dX0_shares_74 : decode cX0_shares 74 = .ok (.getfield 10, 3) := dk_180 0 10 (dk_at dksX0_shares_3 3 rfl rfl)
theorem dX0_shares_77 : decode cX0_shares 77 = .ok (.getfield 154, 3) := dk_180 0 154 (dk_at dksX0_shares_3 6 rfl rfl)
theorem dX0_shares_80 : decode cX0_shares 80 = .ok (.if_icmp .ge 35, 3) := dk_162 0 35 (dk_at dksX0_shares_3 9 rfl rfl)
theorem dX0_shares_83 : decode cX0_shares 83 = .ok (.aload_n 0, 1) := dk_42 (dk_at dksX0_shares_3 12 rfl rfl)
theorem dX0_shares_84 : decode cX0_shares 84 = .ok (.getfield 89, 3) := dk_180 0 89 (dk_at dksX0_shares_3 13 rfl rfl)
theorem dX0_shares_87 : decode cX0_shares 87 = .ok (.iload 7, 2) := dk_21 7 (dk_at dksX0_shares_3 16 rfl rfl)
theorem dX0_shares_89 : decode cX0_shares 89 = .ok (.dup2, 1) := dk_92 (dk_at dksX0_shares_3 18 rfl rfl)
theorem dX0_shares_90 : decode cX0_shares 90 = .ok (.iaload, 1) := dk_46 (dk_at dksX0_shares_3 19 rfl rfl)
theorem dX0_shares_91 : decode cX0_shares 91 = .ok (.aload_n 0, 1) := dk_42 (dk_at dksX0_shares_3 20 rfl rfl)
theorem dX0_shares_92 : decode cX0_shares 92 = .ok (.getfield 85, 3) := dk_180 0 85 (dk_at dksX0_shares_3 21 rfl rfl)
theorem dX0_shares_95 : decode cX0_shares 95 = .ok (.getfield 479, 3) := dk_180 1 223 (dk_at dksX0_shares_4 0 rfl rfl)
theorem dX0_shares_98 : decode cX0_shares 98 = .ok (.bipush 8, 2) := dk_16 8 (dk_at dksX0_shares_4 3 rfl rfl)
theorem dX0_shares_100 : decode cX0_shares 100 = .ok (.iload 8, 2) := dk_21 8 (dk_at dksX0_shares_4 5 rfl rfl)
theorem dX0_shares_102 : decode cX0_shares 102 = .ok (.imul, 1) := dk_104 (dk_at dksX0_shares_4 7 rfl rfl)
theorem dX0_shares_103 : decode cX0_shares 103 = .ok (.iload 7, 2) := dk_21 7 (dk_at dksX0_shares_4 8 rfl rfl)
theorem dX0_shares_105 : decode cX0_shares 105 = .ok (.iadd, 1) := dk_96 (dk_at dksX0_shares_4 10 rfl rfl)
theorem dX0_shares_106 : decode cX0_shares 106 = .ok (.iaload, 1) := dk_46 (dk_at dksX0_shares_4 11 rfl rfl)
theorem dX0_shares_107 : decode cX0_shares 107 = .ok (.iadd, 1) := dk_96 (dk_at dksX0_shares_4 12 rfl rfl)
theorem dX0_shares_108 : decode cX0_shares 108 = .ok (.iastore, 1) := dk_79 (dk_at dksX0_shares_4 13 rfl rfl)
theorem dX0_shares_109 : decode cX0_shares 109 = .ok (.iinc 8 1, 3) := dk_132 8 1 (dk_at dksX0_shares_4 14 rfl rfl)
theorem dX0_shares_112 : decode cX0_shares 112 = .ok (.goto (-41), 3) := dk_167 255 215 (dk_at dksX0_shares_4 17 rfl rfl)
theorem dX0_shares_115 : decode cX0_shares 115 = .ok (.lload 5, 2) := dk_22 5 (dk_at dksX0_shares_4 20 rfl rfl)
theorem dX0_shares_117 : decode cX0_shares 117 = .ok (.aload_n 0, 1) := dk_42 (dk_at dksX0_shares_4 22 rfl rfl)
theorem dX0_shares_118 : decode cX0_shares 118 = .ok (.getfield 89, 3) := dk_180 0 89 (dk_at dksX0_shares_5 0 rfl rfl)
theorem dX0_shares_121 : decode cX0_shares 121 = .ok (.iload 7, 2) := dk_21 7 (dk_at dksX0_shares_5 3 rfl rfl)
theorem dX0_shares_123 : decode cX0_shares 123 = .ok (.iaload, 1) := dk_46 (dk_at dksX0_shares_5 5 rfl rfl)
theorem dX0_shares_124 : decode cX0_shares 124 = .ok (.i2l, 1) := dk_133 (dk_at dksX0_shares_5 6 rfl rfl)
theorem dX0_shares_125 : decode cX0_shares 125 = .ok (.ladd, 1) := dk_97 (dk_at dksX0_shares_5 7 rfl rfl)
theorem dX0_shares_126 : decode cX0_shares 126 = .ok (.lstore 5, 2) := dk_55 5 (dk_at dksX0_shares_5 8 rfl rfl)
theorem dX0_shares_128 : decode cX0_shares 128 = .ok (.iinc 7 1, 3) := dk_132 7 1 (dk_at dksX0_shares_5 10 rfl rfl)
theorem dX0_shares_131 : decode cX0_shares 131 = .ok (.goto (-78), 3) := dk_167 255 178 (dk_at dksX0_shares_5 13 rfl rfl)
theorem dX0_shares_134 : decode cX0_shares 134 = .ok (.lload 5, 2) := dk_22 5 (dk_at dksX0_shares_5 16 rfl rfl)
theorem dX0_shares_136 : decode cX0_shares 136 = .ok (.lconst 0, 1) := dk_9 (dk_at dksX0_shares_5 18 rfl rfl)
theorem dX0_shares_137 : decode cX0_shares 137 = .ok (.lcmp, 1) := dk_148 (dk_at dksX0_shares_5 19 rfl rfl)
theorem dX0_shares_138 : decode cX0_shares 138 = .ok (.ifCond .ne 5, 3) := dk_154 0 5 (dk_at dksX0_shares_5 20 rfl rfl)
theorem dX0_shares_141 : decode cX0_shares 141 = .ok (.iconst (-1), 1) := dk_2 (dk_at dksX0_shares_5 23 rfl rfl)
theorem dX0_shares_142 : decode cX0_shares 142 = .ok (.ireturn, 1) := dk_172 (dk_at dksX0_shares_6 0 rfl rfl)
theorem dX0_shares_143 : decode cX0_shares 143 = .ok (.iload_n 1, 1) := dk_27 (dk_at dksX0_shares_6 1 rfl rfl)
theorem dX0_shares_144 : decode cX0_shares 144 = .ok (.istore 7, 2) := dk_54 7 (dk_at dksX0_shares_6 2 rfl rfl)
theorem dX0_shares_146 : decode cX0_shares 146 = .ok (.iconst 0, 1) := dk_3 (dk_at dksX0_shares_6 4 rfl rfl)
theorem dX0_shares_147 : decode cX0_shares 147 = .ok (.istore 8, 2) := dk_54 8 (dk_at dksX0_shares_6 5 rfl rfl)
theorem dX0_shares_149 : decode cX0_shares 149 = .ok (.iconst 0, 1) := dk_3 (dk_at dksX0_shares_6 7 rfl rfl)
theorem dX0_shares_150 : decode cX0_shares 150 = .ok (.istore 9, 2) := dk_54 9 (dk_at dksX0_shares_6 8 rfl rfl)
theorem dX0_shares_152 : decode cX0_shares 152 = .ok (.iload 9, 2) := dk_21 9 (dk_at dksX0_shares_6 10 rfl rfl)
theorem dX0_shares_154 : decode cX0_shares 154 = .ok (.bipush 8, 2) := dk_16 8 (dk_at dksX0_shares_6 12 rfl rfl)
theorem dX0_shares_156 : decode cX0_shares 156 = .ok (.if_icmp .ge 71, 3) := dk_162 0 71 (dk_at dksX0_shares_6 14 rfl rfl)
theorem dX0_shares_159 : decode cX0_shares 159 = .ok (.iload_n 1, 1) := dk_27 (dk_at dksX0_shares_6 17 rfl rfl)
theorem dX0_shares_160 : decode cX0_shares 160 = .ok (.i2l, 1) := dk_133 (dk_at dksX0_shares_6 18 rfl rfl)
theorem dX0_shares_161 : decode cX0_shares 161 = .ok (.aload_n 0, 1) := dk_42 (dk_at dksX0_shares_6 19 rfl rfl)
theorem dX0_shares_162 : decode cX0_shares 162 = .ok (.getfield 89, 3) := dk_180 0 89 (dk_at dksX0_shares_6 20 rfl rfl)
theorem dX0_shares_165 : decode cX0_shares 165 = .ok (.iload 9, 2) := dk_21 9 (dk_at dksX0_shares_7 0 rfl rfl)
theorem dX0_shares_167 : decode cX0_shares 167 = .ok (.iaload, 1) := dk_46 (dk_at dksX0_shares_7 2 rfl rfl)
theorem dX0_shares_168 : decode cX0_shares 168 = .ok (.i2l, 1) := dk_133 (dk_at dksX0_shares_7 3 rfl rfl)
theorem dX0_shares_169 : decode cX0_shares 169 = .ok (.lmul, 1) := dk_105 (dk_at dksX0_shares_7 4 rfl rfl)
theorem dX0_shares_170 : decode cX0_shares 170 = .ok (.lload 5, 2) := dk_22 5 (dk_at dksX0_shares_7 5 rfl rfl)
theorem dX0_shares_172 : decode cX0_shares 172 = .ok (.ldiv, 1) := dk_109 (dk_at dksX0_shares_7 7 rfl rfl)
theorem dX0_shares_173 : decode cX0_shares 173 = .ok (.l2i, 1) := dk_136 (dk_at dksX0_shares_7 8 rfl rfl)
theorem dX0_shares_174 : decode cX0_shares 174 = .ok (.istore 10, 2) := dk_54 10 (dk_at dksX0_shares_7 9 rfl rfl)
theorem dX0_shares_176 : decode cX0_shares 176 = .ok (.aload_n 0, 1) := dk_42 (dk_at dksX0_shares_7 11 rfl rfl)
theorem dX0_shares_177 : decode cX0_shares 177 = .ok (.getfield 98, 3) := dk_180 0 98 (dk_at dksX0_shares_7 12 rfl rfl)
theorem dX0_shares_180 : decode cX0_shares 180 = .ok (.iload 9, 2) := dk_21 9 (dk_at dksX0_shares_7 15 rfl rfl)
theorem dX0_shares_182 : decode cX0_shares 182 = .ok (.iload_n 1, 1) := dk_27 (dk_at dksX0_shares_7 17 rfl rfl)
theorem dX0_shares_183 : decode cX0_shares 183 = .ok (.i2l, 1) := dk_133 (dk_at dksX0_shares_7 18 rfl rfl)
theorem dX0_shares_184 : decode cX0_shares 184 = .ok (.aload_n 0, 1) := dk_42 (dk_at dksX0_shares_7 19 rfl rfl)
theorem dX0_shares_185 : decode cX0_shares 185 = .ok (.getfield 89, 3) := dk_180 0 89 (dk_at dksX0_shares_7 20 rfl rfl)
theorem dX0_shares_188 : decode cX0_shares 188 = .ok (.iload 9, 2) := dk_21 9 (dk_at dksX0_shares_8 0 rfl rfl)
theorem dX0_shares_190 : decode cX0_shares 190 = .ok (.iaload, 1) := dk_46 (dk_at dksX0_shares_8 2 rfl rfl)
theorem dX0_shares_191 : decode cX0_shares 191 = .ok (.i2l, 1) := dk_133 (dk_at dksX0_shares_8 3 rfl rfl)
theorem dX0_shares_192 : decode cX0_shares 192 = .ok (.lmul, 1) := dk_105 (dk_at dksX0_shares_8 4 rfl rfl)
theorem dX0_shares_193 : decode cX0_shares 193 = .ok (.lload 5, 2) := dk_22 5 (dk_at dksX0_shares_8 5 rfl rfl)
theorem dX0_shares_195 : decode cX0_shares 195 = .ok (.lrem, 1) := dk_113 (dk_at dksX0_shares_8 7 rfl rfl)
theorem dX0_shares_196 : decode cX0_shares 196 = .ok (.lastore, 1) := dk_80 (dk_at dksX0_shares_8 8 rfl rfl)
theorem dX0_shares_197 : decode cX0_shares 197 = .ok (.iload 7, 2) := dk_21 7 (dk_at dksX0_shares_8 9 rfl rfl)
theorem dX0_shares_199 : decode cX0_shares 199 = .ok (.iload 10, 2) := dk_21 10 (dk_at dksX0_shares_8 11 rfl rfl)
theorem dX0_shares_201 : decode cX0_shares 201 = .ok (.isub, 1) := dk_100 (dk_at dksX0_shares_8 13 rfl rfl)
theorem dX0_shares_202 : decode cX0_shares 202 = .ok (.istore 7, 2) := dk_54 7 (dk_at dksX0_shares_8 14 rfl rfl)
theorem dX0_shares_204 : decode cX0_shares 204 = .ok (.iload 8, 2) := dk_21 8 (dk_at dksX0_shares_8 16 rfl rfl)
theorem dX0_shares_206 : decode cX0_shares 206 = .ok (.iload 9, 2) := dk_21 9 (dk_at dksX0_shares_8 18 rfl rfl)
theorem dX0_shares_208 : decode cX0_shares 208 = .ok (.iload_n 2, 1) := dk_28 (dk_at dksX0_shares_8 20 rfl rfl)
theorem dX0_shares_209 : decode cX0_shares 209 = .ok (.if_icmp .ne 8, 3) := dk_160 0 8 (dk_at dksX0_shares_8 21 rfl rfl)
theorem dX0_shares_212 : decode cX0_shares 212 = .ok (.iload 10, 2) := dk_21 10 (dk_at dksX0_shares_9 0 rfl rfl)
theorem dX0_shares_214 : decode cX0_shares 214 = .ok (.goto 4, 3) := dk_167 0 4 (dk_at dksX0_shares_9 2 rfl rfl)
theorem dX0_shares_217 : decode cX0_shares 217 = .ok (.iconst 0, 1) := dk_3 (dk_at dksX0_shares_9 5 rfl rfl)
theorem dX0_shares_218 : decode cX0_shares 218 = .ok (.iadd, 1) := dk_96 (dk_at dksX0_shares_9 6 rfl rfl)
theorem dX0_shares_219 : decode cX0_shares 219 = .ok (.istore 8, 2) := dk_54 8 (dk_at dksX0_shares_9 7 rfl rfl)
theorem dX0_shares_221 : decode cX0_shares 221 = .ok (.iinc 9 1, 3) := dk_132 9 1 (dk_at dksX0_shares_9 9 rfl rfl)
theorem dX0_shares_224 : decode cX0_shares 224 = .ok (.goto (-72), 3) := dk_167 255 184 (dk_at dksX0_shares_9 12 rfl rfl)
theorem dX0_shares_227 : decode cX0_shares 227 = .ok (.iload 7, 2) := dk_21 7 (dk_at dksX0_shares_9 15 rfl rfl)
theorem dX0_shares_229 : decode cX0_shares 229 = .ok (.ifCond .le 76, 3) := dk_158 0 76 (dk_at dksX0_shares_9 17 rfl rfl)
theorem dX0_shares_232 : decode cX0_shares 232 = .ok (.iconst 0, 1) := dk_3 (dk_at dksX0_shares_9 20 rfl rfl)
theorem dX0_shares_233 : decode cX0_shares 233 = .ok (.istore 9, 2) := dk_54 9 (dk_at dksX0_shares_9 21 rfl rfl)
theorem dX0_shares_235 : decode cX0_shares 235 = .ok (.iconst 1, 1) := dk_4 (dk_at dksX0_shares_9 23 rfl rfl)
theorem dX0_shares_236 : decode cX0_shares 236 = .ok (.istore 10, 2) := dk_54 10 (dk_at dksX0_shares_10 0 rfl rfl)
theorem dX0_shares_238 : decode cX0_shares 238 = .ok (.iload 10, 2) := dk_21 10 (dk_at dksX0_shares_10 2 rfl rfl)
theorem dX0_shares_240 : decode cX0_shares 240 = .ok (.bipush 8, 2) := dk_16 8 (dk_at dksX0_shares_10 4 rfl rfl)
theorem dX0_shares_242 : decode cX0_shares 242 = .ok (.if_icmp .ge 31, 3) := dk_162 0 31 (dk_at dksX0_shares_10 6 rfl rfl)
theorem dX0_shares_245 : decode cX0_shares 245 = .ok (.aload_n 0, 1) := dk_42 (dk_at dksX0_shares_10 9 rfl rfl)
theorem dX0_shares_246 : decode cX0_shares 246 = .ok (.getfield 98, 3) := dk_180 0 98 (dk_at dksX0_shares_10 10 rfl rfl)
theorem dX0_shares_249 : decode cX0_shares 249 = .ok (.iload 10, 2) := dk_21 10 (dk_at dksX0_shares_10 13 rfl rfl)
theorem dX0_shares_251 : decode cX0_shares 251 = .ok (.laload, 1) := dk_47 (dk_at dksX0_shares_10 15 rfl rfl)
theorem dX0_shares_252 : decode cX0_shares 252 = .ok (.aload_n 0, 1) := dk_42 (dk_at dksX0_shares_10 16 rfl rfl)
theorem dX0_shares_253 : decode cX0_shares 253 = .ok (.getfield 98, 3) := dk_180 0 98 (dk_at dksX0_shares_10 17 rfl rfl)
theorem dX0_shares_256 : decode cX0_shares 256 = .ok (.iload 9, 2) := dk_21 9 (dk_at dksX0_shares_10 20 rfl rfl)
theorem dX0_shares_258 : decode cX0_shares 258 = .ok (.laload, 1) := dk_47 (dk_at dksX0_shares_10 22 rfl rfl)
theorem dX0_shares_259 : decode cX0_shares 259 = .ok (.lcmp, 1) := dk_148 (dk_at dksX0_shares_10 23 rfl rfl)
theorem dX0_shares_260 : decode cX0_shares 260 = .ok (.ifCond .le 7, 3) := dk_158 0 7 (dk_at dksX0_shares_11 0 rfl rfl)
theorem dX0_shares_263 : decode cX0_shares 263 = .ok (.iload 10, 2) := dk_21 10 (dk_at dksX0_shares_11 3 rfl rfl)
theorem dX0_shares_265 : decode cX0_shares 265 = .ok (.istore 9, 2) := dk_54 9 (dk_at dksX0_shares_11 5 rfl rfl)
theorem dX0_shares_267 : decode cX0_shares 267 = .ok (.iinc 10 1, 3) := dk_132 10 1 (dk_at dksX0_shares_11 7 rfl rfl)
theorem dX0_shares_270 : decode cX0_shares 270 = .ok (.goto (-32), 3) := dk_167 255 224 (dk_at dksX0_shares_11 10 rfl rfl)
theorem dX0_shares_273 : decode cX0_shares 273 = .ok (.aload_n 0, 1) := dk_42 (dk_at dksX0_shares_11 13 rfl rfl)
theorem dX0_shares_274 : decode cX0_shares 274 = .ok (.getfield 98, 3) := dk_180 0 98 (dk_at dksX0_shares_11 14 rfl rfl)
theorem dX0_shares_277 : decode cX0_shares 277 = .ok (.iload 9, 2) := dk_21 9 (dk_at dksX0_shares_11 17 rfl rfl)
theorem dX0_shares_279 : decode cX0_shares 279 = .ok (.ldc2_w 502, 3) := dk_20 1 246 (dk_at dksX0_shares_11 19 rfl rfl)
theorem dX0_shares_282 : decode cX0_shares 282 = .ok (.lastore, 1) := dk_80 (dk_at dksX0_shares_11 22 rfl rfl)
theorem dX0_shares_283 : decode cX0_shares 283 = .ok (.iload 8, 2) := dk_21 8 (dk_at dksX0_shares_12 0 rfl rfl)
theorem dX0_shares_285 : decode cX0_shares 285 = .ok (.iload 9, 2) := dk_21 9 (dk_at dksX0_shares_12 2 rfl rfl)
theorem dX0_shares_287 : decode cX0_shares 287 = .ok (.iload_n 2, 1) := dk_28 (dk_at dksX0_shares_12 4 rfl rfl)
theorem dX0_shares_288 : decode cX0_shares 288 = .ok (.if_icmp .ne 7, 3) := dk_160 0 7 (dk_at dksX0_shares_12 5 rfl rfl)
theorem dX0_shares_291 : decode cX0_shares 291 = .ok (.iconst 1, 1) := dk_4 (dk_at dksX0_shares_12 8 rfl rfl)
theorem dX0_shares_292 : decode cX0_shares 292 = .ok (.goto 4, 3) := dk_167 0 4 (dk_at dksX0_shares_12 9 rfl rfl)
theorem dX0_shares_295 : decode cX0_shares 295 = .ok (.iconst 0, 1) := dk_3 (dk_at dksX0_shares_12 12 rfl rfl)
theorem dX0_shares_296 : decode cX0_shares 296 = .ok (.iadd, 1) := dk_96 (dk_at dksX0_shares_12 13 rfl rfl)
theorem dX0_shares_297 : decode cX0_shares 297 = .ok (.istore 8, 2) := dk_54 8 (dk_at dksX0_shares_12 14 rfl rfl)
theorem dX0_shares_299 : decode cX0_shares 299 = .ok (.iinc 7 (-1), 3) := dk_132 7 255 (dk_at dksX0_shares_12 16 rfl rfl)
theorem dX0_shares_302 : decode cX0_shares 302 = .ok (.goto (-75), 3) := dk_167 255 181 (dk_at dksX0_shares_12 19 rfl rfl)
theorem dX0_shares_305 : decode cX0_shares 305 = .ok (.iload 8, 2) := dk_21 8 (dk_at dksX0_shares_12 22 rfl rfl)
theorem dX0_shares_307 : decode cX0_shares 307 = .ok (.ireturn, 1) := dk_172 (dk_at dksX0_shares_13 0 rfl rfl)
def dkwX0_terms_2 : List UInt8 := [182, 0, 123, 172]
abbrev dktX0_terms_2 : List UInt8 := dkwX0_terms_2 ++ []
def dkwX0_terms_1 : List UInt8 := [182, 0, 131, 172, 42, 180, 0, 10, 27, 181, 1, 248, 42, 180, 0, 10, 28, 181, 1, 251, 42, 3]
abbrev dktX0_terms_1 : List UInt8 := dkwX0_terms_1 ++ dktX0_terms_2
def dkwX0_terms_0 : List UInt8 := [27, 4, 16, 50, 184, 0, 127, 153, 0, 13, 28, 3, 16, 9, 184, 0, 127, 154, 0, 9, 42, 2]
abbrev dktX0_terms_0 : List UInt8 := dkwX0_terms_0 ++ dktX0_terms_1
theorem dksX0_terms_0 : cX0_terms.data.toList.drop 0 = dktX0_terms_0 := by decide +kernel
theorem dksX0_terms_1 : cX0_terms.data.toList.drop 22 = dktX0_terms_1 := dk_seg dksX0_terms_0 22 rfl rfl
theorem dksX0_terms_2 : cX0_terms.data.toList.drop 44 = dktX0_terms_2 := dk_seg dksX0_terms_1 22 rfl rfl
theorem dX0_terms_0 : decode cX0_terms 0 = .ok (.iload_n 1, 1) := dk_27 (dk_at dksX0_terms_0 0 rfl rfl)
theorem dX0_terms_1 : decode cX0_terms 1 = .ok (.iconst 1, 1) := dk_4 (dk_at dksX0_terms_0 1 rfl rfl)
theorem dX0_terms_2 : decode cX0_terms 2 = .ok (.bipush 50, 2) := dk_16 50 (dk_at dksX0_terms_0 2 rfl rfl)
theorem dX0_terms_4 : decode cX0_terms 4 = .ok (.invokestatic 127, 3) := dk_184 0 127 (dk_at dksX0_terms_0 4 rfl rfl)
theorem dX0_terms_7 : decode cX0_terms 7 = .ok (.ifCond .eq 13, 3) := dk_153 0 13 (dk_at dksX0_terms_0 7 rfl rfl)
theorem dX0_terms_10 : decode cX0_terms 10 = .ok (.iload_n 2, 1) := dk_28 (dk_at dksX0_terms_0 10 rfl rfl)
theorem dX0_terms_11 : decode cX0_terms 11 = .ok (.iconst 0, 1) := dk_3 (dk_at dksX0_terms_0 11 rfl rfl)
theorem dX0_terms_12 : decode cX0_terms 12 = .ok (.bipush 9, 2) := dk_16 9 (dk_at dksX0_terms_0 12 rfl rfl)
theorem dX0_terms_14 : decode cX0_terms 14 = .ok (.invokestatic 127, 3) := dk_184 0 127 (dk_at dksX0_terms_0 14 rfl rfl)
theorem dX0_terms_17 : decode cX0_terms 17 = .ok (.ifCond .ne 9, 3) := dk_154 0 9 (dk_at dksX0_terms_0 17 rfl rfl)
theorem dX0_terms_20 : decode cX0_terms 20 = .ok (.aload_n 0, 1) := dk_42 (dk_at dksX0_terms_0 20 rfl rfl)
theorem dX0_terms_21 : decode cX0_terms 21 = .ok (.iconst (-1), 1) := dk_2 (dk_at dksX0_terms_0 21 rfl rfl)
theorem dX0_terms_22 : decode cX0_terms 22 = .ok (.invokevirtual 131, 3) := dk_182 0 131 (dk_at dksX0_terms_1 0 rfl rfl)
theorem dX0_terms_25 : decode cX0_terms 25 = .ok (.ireturn, 1) := dk_172 (dk_at dksX0_terms_1 3 rfl rfl)
theorem dX0_terms_26 : decode cX0_terms 26 = .ok (.aload_n 0, 1) := dk_42 (dk_at dksX0_terms_1 4 rfl rfl)
theorem dX0_terms_27 : decode cX0_terms 27 = .ok (.getfield 10, 3) := dk_180 0 10 (dk_at dksX0_terms_1 5 rfl rfl)
theorem dX0_terms_30 : decode cX0_terms 30 = .ok (.iload_n 1, 1) := dk_27 (dk_at dksX0_terms_1 8 rfl rfl)
theorem dX0_terms_31 : decode cX0_terms 31 = .ok (.putfield 504, 3) := dk_181 1 248 (dk_at dksX0_terms_1 9 rfl rfl)
theorem dX0_terms_34 : decode cX0_terms 34 = .ok (.aload_n 0, 1) := dk_42 (dk_at dksX0_terms_1 12 rfl rfl)
theorem dX0_terms_35 : decode cX0_terms 35 = .ok (.getfield 10, 3) := dk_180 0 10 (dk_at dksX0_terms_1 13 rfl rfl)
theorem dX0_terms_38 : decode cX0_terms 38 = .ok (.iload_n 2, 1) := dk_28 (dk_at dksX0_terms_1 16 rfl rfl)
theorem dX0_terms_39 : decode cX0_terms 39 = .ok (.putfield 507, 3) := dk_181 1 251 (dk_at dksX0_terms_1 17 rfl rfl)
theorem dX0_terms_42 : decode cX0_terms 42 = .ok (.aload_n 0, 1) := dk_42 (dk_at dksX0_terms_1 20 rfl rfl)
theorem dX0_terms_43 : decode cX0_terms 43 = .ok (.iconst 0, 1) := dk_3 (dk_at dksX0_terms_1 21 rfl rfl)
theorem dX0_terms_44 : decode cX0_terms 44 = .ok (.invokevirtual 123, 3) := dk_182 0 123 (dk_at dksX0_terms_2 0 rfl rfl)
theorem dX0_terms_47 : decode cX0_terms 47 = .ok (.ireturn, 1) := dk_172 (dk_at dksX0_terms_2 3 rfl rfl)
def dkwX0_span_2 : List UInt8 := [180, 0, 55, 27, 28, 79, 42, 180, 0, 58, 27, 29, 79, 42, 3, 182, 0, 123, 172]
abbrev dktX0_span_2 : List UInt8 := dkwX0_span_2 ++ []
def dkwX0_span_1 : List UInt8 := [27, 3, 42, 180, 1, 123, 4, 100, 184, 0, 127, 154, 0, 10, 42, 16, 254, 182, 0, 131, 172, 42]
abbrev dktX0_span_1 : List UInt8 := dkwX0_span_1 ++ dktX0_span_2
def dkwX0_span_0 : List UInt8 := [28, 184, 0, 201, 153, 0, 14, 29, 28, 17, 1, 143, 184, 0, 127, 154, 0, 9, 42, 2, 182, 0, 131, 172]
abbrev dktX0_span_0 : List UInt8 := dkwX0_span_0 ++ dktX0_span_1
theorem dksX0_span_0 : cX0_span.data.toList.drop 0 = dktX0_span_0 := by decide +kernel
theorem dksX0_span_1 : cX0_span.data.toList.drop 24 = dktX0_span_1 := dk_seg dksX0_span_0 24 rfl rfl
theorem dksX0_span_2 : cX0_span.data.toList.drop 46 = dktX0_span_2 := dk_seg dksX0_span_1 22 rfl rfl
theorem dX0_span_0 : decode cX0_span 0 = .ok (.iload_n 2, 1) := dk_28 (dk_at dksX0_span_0 0 rfl rfl)
theorem dX0_span_1 : decode cX0_span 1 = .ok (.invokestatic 201, 3) := dk_184 0 201 (dk_at dksX0_span_0 1 rfl rfl)
theorem dX0_span_4 : decode cX0_span 4 = .ok (.ifCond .eq 14, 3) := dk_153 0 14 (dk_at dksX0_span_0 4 rfl rfl)
theorem dX0_span_7 : decode cX0_span 7 = .ok (.iload_n 3, 1) := dk_29 (dk_at dksX0_span_0 7 rfl rfl)
theorem dX0_span_8 : decode cX0_span 8 = .ok (.iload_n 2, 1) := dk_28 (dk_at dksX0_span_0 8 rfl rfl)
theorem dX0_span_9 : decode cX0_span 9 = .ok (.sipush 399, 3) := dk_17 1 143 (dk_at dksX0_span_0 9 rfl rfl)
theorem dX0_span_12 : decode cX0_span 12 = .ok (.invokestatic 127, 3) := dk_184 0 127 (dk_at dksX0_span_0 12 rfl rfl)
theorem dX0_span_15 : decode cX0_span 15 = .ok (.ifCond .ne 9, 3) := dk_154 0 9 (dk_at dksX0_span_0 15 rfl rfl)
theorem dX0_span_18 : decode cX0_span 18 = .ok (.aload_n 0, 1) := dk_42 (dk_at dksX0_span_0 18 rfl rfl)
theorem dX0_span_19 : decode cX0_span 19 = .ok (.iconst (-1), 1) := dk_2 (dk_at dksX0_span_0 19 rfl rfl)
theorem dX0_span_20 : decode cX0_span 20 = .ok (.invokevirtual 131, 3) := dk_182 0 131 (dk_at dksX0_span_0 20 rfl rfl)
theorem dX0_span_23 : decode cX0_span 23 = .ok (.ireturn, 1) := dk_172 (dk_at dksX0_span_0 23 rfl rfl)
theorem dX0_span_24 : decode cX0_span 24 = .ok (.iload_n 1, 1) := dk_27 (dk_at dksX0_span_1 0 rfl rfl)
theorem dX0_span_25 : decode cX0_span 25 = .ok (.iconst 0, 1) := dk_3 (dk_at dksX0_span_1 1 rfl rfl)
theorem dX0_span_26 : decode cX0_span 26 = .ok (.aload_n 0, 1) := dk_42 (dk_at dksX0_span_1 2 rfl rfl)
theorem dX0_span_27 : decode cX0_span 27 = .ok (.getfield 379, 3) := dk_180 1 123 (dk_at dksX0_span_1 3 rfl rfl)
theorem dX0_span_30 : decode cX0_span 30 = .ok (.iconst 1, 1) := dk_4 (dk_at dksX0_span_1 6 rfl rfl)
theorem dX0_span_31 : decode cX0_span 31 = .ok (.isub, 1) := dk_100 (dk_at dksX0_span_1 7 rfl rfl)
theorem dX0_span_32 : decode cX0_span 32 = .ok (.invokestatic 127, 3) := dk_184 0 127 (dk_at dksX0_span_1 8 rfl rfl)
theorem dX0_span_35 : decode cX0_span 35 = .ok (.ifCond .ne 10, 3) := dk_154 0 10 (dk_at dksX0_span_1 11 rfl rfl)
theorem dX0_span_38 : decode cX0_span 38 = .ok (.aload_n 0, 1) := dk_42 (dk_at dksX0_span_1 14 rfl rfl)
theorem dX0_span_39 : decode cX0_span 39 = .ok (.bipush (-2), 2) := dk_16 254 (dk_at dksX0_span_1 15 rfl rfl)
theorem dX0_span_41 : decode cX0_span 41 = .ok (.invokevirtual 131, 3) := dk_182 0 131 (dk_at dksX0_span_1 17 rfl rfl)
theorem dX0_span_44 : decode cX0_span 44 = .ok (.ireturn, 1) := dk_172 (dk_at dksX0_span_1 20 rfl rfl)
theorem dX0_span_45 : decode cX0_span 45 = .ok (.aload_n 0, 1) := dk_42 (dk_at dksX0_span_1 21 rfl rfl)
theorem dX0_span_46 : decode cX0_span 46 = .ok (.getfield 55, 3) := dk_180 0 55 (dk_at dksX0_span_2 0 rfl rfl)
theorem dX0_span_49 : decode cX0_span 49 = .ok (.iload_n 1, 1) := dk_27 (dk_at dksX0_span_2 3 rfl rfl)
theorem dX0_span_50 : decode cX0_span 50 = .ok (.iload_n 2, 1) := dk_28 (dk_at dksX0_span_2 4 rfl rfl)
theorem dX0_span_51 : decode cX0_span 51 = .ok (.iastore, 1) := dk_79 (dk_at dksX0_span_2 5 rfl rfl)
theorem dX0_span_52 : decode cX0_span 52 = .ok (.aload_n 0, 1) := dk_42 (dk_at dksX0_span_2 6 rfl rfl)
theorem dX0_span_53 : decode cX0_span 53 = .ok (.getfield 58, 3) := dk_180 0 58 (dk_at dksX0_span_2 7 rfl rfl)
theorem dX0_span_56 : decode cX0_span 56 = .ok (.iload_n 1, 1) := dk_27 (dk_at dksX0_span_2 10 rfl rfl)
theorem dX0_span_57 : decode cX0_span 57 = .ok (.iload_n 3, 1) := dk_29 (dk_at dksX0_span_2 11 rfl rfl)
theorem dX0_span_58 : decode cX0_span 58 = .ok (.iastore, 1) := dk_79 (dk_at dksX0_span_2 12 rfl rfl)
theorem dX0_span_59 : decode cX0_span 59 = .ok (.aload_n 0, 1) := dk_42 (dk_at dksX0_span_2 13 rfl rfl)
theorem dX0_span_60 : decode cX0_span 60 = .ok (.iconst 0, 1) := dk_3 (dk_at dksX0_span_2 14 rfl rfl)
theorem dX0_span_61 : decode cX0_span 61 = .ok (.invokevirtual 123, 3) := dk_182 0 123 (dk_at dksX0_span_2 15 rfl rfl)
theorem dX0_span_64 : decode cX0_span 64 = .ok (.ireturn, 1) := dk_172 (dk_at dksX0_span_2 18 rfl rfl)
def dkwX0_way_2 : List UInt8 := [180, 1, 254, 172]
abbrev dktX0_way_2 : List UInt8 := dkwX0_way_2 ++ []
def dkwX0_way_1 : List UInt8 := [42, 3, 181, 1, 254, 42, 3, 3, 27, 28, 182, 2, 4, 42, 42, 180, 1, 254, 181, 0, 114, 42]
abbrev dktX0_way_1 : List UInt8 := dkwX0_way_1 ++ dktX0_way_2
def dkwX0_way_0 : List UInt8 := [42, 27, 182, 0, 204, 153, 0, 17, 28, 184, 0, 201, 153, 0, 10, 42, 182, 1, 135, 154, 0, 5, 2, 172]
abbrev dktX0_way_0 : List UInt8 := dkwX0_way_0 ++ dktX0_way_1
theorem dksX0_way_0 : cX0_way.data.toList.drop 0 = dktX0_way_0 := by decide +kernel
theorem dksX0_way_1 : cX0_way.data.toList.drop 24 = dktX0_way_1 := dk_seg dksX0_way_0 24 rfl rfl
theorem dksX0_way_2 : cX0_way.data.toList.drop 46 = dktX0_way_2 := dk_seg dksX0_way_1 22 rfl rfl
theorem dX0_way_0 : decode cX0_way 0 = .ok (.aload_n 0, 1) := dk_42 (dk_at dksX0_way_0 0 rfl rfl)
theorem dX0_way_1 : decode cX0_way 1 = .ok (.iload_n 1, 1) := dk_27 (dk_at dksX0_way_0 1 rfl rfl)
theorem dX0_way_2 : decode cX0_way 2 = .ok (.invokevirtual 204, 3) := dk_182 0 204 (dk_at dksX0_way_0 2 rfl rfl)
theorem dX0_way_5 : decode cX0_way 5 = .ok (.ifCond .eq 17, 3) := dk_153 0 17 (dk_at dksX0_way_0 5 rfl rfl)
theorem dX0_way_8 : decode cX0_way 8 = .ok (.iload_n 2, 1) := dk_28 (dk_at dksX0_way_0 8 rfl rfl)
theorem dX0_way_9 : decode cX0_way 9 = .ok (.invokestatic 201, 3) := dk_184 0 201 (dk_at dksX0_way_0 9 rfl rfl)
theorem dX0_way_12 : decode cX0_way 12 = .ok (.ifCond .eq 10, 3) := dk_153 0 10 (dk_at dksX0_way_0 12 rfl rfl)
theorem dX0_way_15 : decode cX0_way 15 = .ok (.aload_n 0, 1) := dk_42 (dk_at dksX0_way_0 15 rfl rfl)
theorem dX0_way_16 : decode cX0_way 16 = .ok (.invokevirtual 391, 3) := dk_182 1 135 (dk_at dksX0_way_0 16 rfl rfl)
theorem dX0_way_19 : decode cX0_way 19 = .ok (.ifCond .ne 5, 3) := dk_154 0 5 (dk_at dksX0_way_0 19 rfl rfl)
theorem dX0_way_22 : decode cX0_way 22 = .ok (.iconst (-1), 1) := dk_2 (dk_at dksX0_way_0 22 rfl rfl)
theorem dX0_way_23 : decode cX0_way 23 = .ok (.ireturn, 1) := dk_172 (dk_at dksX0_way_0 23 rfl rfl)
theorem dX0_way_24 : decode cX0_way 24 = .ok (.aload_n 0, 1) := dk_42 (dk_at dksX0_way_1 0 rfl rfl)
theorem dX0_way_25 : decode cX0_way 25 = .ok (.iconst 0, 1) := dk_3 (dk_at dksX0_way_1 1 rfl rfl)
theorem dX0_way_26 : decode cX0_way 26 = .ok (.putfield 510, 3) := dk_181 1 254 (dk_at dksX0_way_1 2 rfl rfl)
theorem dX0_way_29 : decode cX0_way 29 = .ok (.aload_n 0, 1) := dk_42 (dk_at dksX0_way_1 5 rfl rfl)
theorem dX0_way_30 : decode cX0_way 30 = .ok (.iconst 0, 1) := dk_3 (dk_at dksX0_way_1 6 rfl rfl)
theorem dX0_way_31 : decode cX0_way 31 = .ok (.iconst 0, 1) := dk_3 (dk_at dksX0_way_1 7 rfl rfl)
theorem dX0_way_32 : decode cX0_way 32 = .ok (.iload_n 1, 1) := dk_27 (dk_at dksX0_way_1 8 rfl rfl)
theorem dX0_way_33 : decode cX0_way 33 = .ok (.iload_n 2, 1) := dk_28 (dk_at dksX0_way_1 9 rfl rfl)
theorem dX0_way_34 : decode cX0_way 34 = .ok (.invokevirtual 516, 3) := dk_182 2 4 (dk_at dksX0_way_1 10 rfl rfl)
theorem dX0_way_37 : decode cX0_way 37 = .ok (.aload_n 0, 1) := dk_42 (dk_at dksX0_way_1 13 rfl rfl)
theorem dX0_way_38 : decode cX0_way 38 = .ok (.aload_n 0, 1) := dk_42 (dk_at dksX0_way_1 14 rfl rfl)
theorem dX0_way_39 : decode cX0_way 39 = .ok (.getfield 510, 3) := dk_180 1 254 (dk_at dksX0_way_1 15 rfl rfl)
theorem dX0_way_42 : decode cX0_way 42 = .ok (.putfield 114, 3) := dk_181 0 114 (dk_at dksX0_way_1 18 rfl rfl)
theorem dX0_way_45 : decode cX0_way 45 = .ok (.aload_n 0, 1) := dk_42 (dk_at dksX0_way_1 21 rfl rfl)
theorem dX0_way_46 : decode cX0_way 46 = .ok (.getfield 510, 3) := dk_180 1 254 (dk_at dksX0_way_2 0 rfl rfl)
theorem dX0_way_49 : decode cX0_way 49 = .ok (.ireturn, 1) := dk_172 (dk_at dksX0_way_2 3 rfl rfl)
def dkwX0_goes_8 : List UInt8 := [132, 5, 1, 167, 255, 141, 177]
abbrev dktX0_goes_8 : List UInt8 := dkwX0_goes_8 ++ []
def dkwX0_goes_7 : List UInt8 := [4, 96, 28, 4, 21, 5, 120, 128, 42, 180, 0, 51, 21, 5, 46, 21, 6, 4, 96, 182, 2, 4]
abbrev dktX0_goes_7 : List UInt8 := dkwX0_goes_7 ++ dktX0_goes_8
def dkwX0_goes_6 : List UInt8 := [161, 0, 6, 167, 0, 43, 42, 180, 0, 102, 27, 21, 5, 79, 42, 180, 0, 105, 27, 21, 6, 79, 42, 27]
abbrev dktX0_goes_6 : List UInt8 := dkwX0_goes_6 ++ dktX0_goes_7
def dkwX0_goes_5 : List UInt8 := [46, 184, 1, 229, 54, 6, 21, 6, 42, 180, 0, 58, 21, 5, 46, 163, 0, 54, 21, 6, 17, 1, 144]
abbrev dktX0_goes_5 : List UInt8 := dkwX0_goes_5 ++ dktX0_goes_6
def dkwX0_goes_4 : List UInt8 := [167, 0, 93, 21, 4, 42, 29, 42, 180, 0, 51, 21, 5, 46, 182, 2, 1, 96, 42, 180, 0, 55, 21, 5]
abbrev dktX0_goes_4 : List UInt8 := dkwX0_goes_4 ++ dktX0_goes_5
def dkwX0_goes_3 : List UInt8 := [3, 54, 5, 21, 5, 42, 180, 1, 123, 162, 0, 112, 28, 21, 5, 122, 4, 126, 4, 160, 0, 6]
abbrev dktX0_goes_3 : List UInt8 := dkwX0_goes_3 ++ dktX0_goes_4
def dkwX0_goes_2 : List UInt8 := [3, 42, 180, 0, 108, 3, 27, 184, 0, 216, 42, 180, 0, 105, 3, 42, 180, 0, 111, 3, 27, 184, 0, 216]
abbrev dktX0_goes_2 : List UInt8 := dkwX0_goes_2 ++ dktX0_goes_3
def dkwX0_goes_1 : List UInt8 := [27, 4, 100, 46, 42, 180, 0, 111, 27, 4, 100, 46, 162, 0, 36, 42, 27, 181, 1, 254, 42, 180, 0, 102]
abbrev dktX0_goes_1 : List UInt8 := dkwX0_goes_1 ++ dktX0_goes_2
def dkwX0_goes_0 : List UInt8 := [27, 42, 180, 1, 254, 163, 0, 34, 27, 42, 180, 1, 254, 160, 0, 59, 27, 158, 0, 55, 42, 180, 0, 105]
abbrev dktX0_goes_0 : List UInt8 := dkwX0_goes_0 ++ dktX0_goes_1
theorem dksX0_goes_0 : cX0_goes.data.toList.drop 0 = dktX0_goes_0 := by decide +kernel
theorem dksX0_goes_1 : cX0_goes.data.toList.drop 24 = dktX0_goes_1 := dk_seg dksX0_goes_0 24 rfl rfl
theorem dksX0_goes_2 : cX0_goes.data.toList.drop 48 = dktX0_goes_2 := dk_seg dksX0_goes_1 24 rfl rfl
theorem dksX0_goes_3 : cX0_goes.data.toList.drop 72 = dktX0_goes_3 := dk_seg dksX0_goes_2 24 rfl rfl
theorem dksX0_goes_4 : cX0_goes.data.toList.drop 94 = dktX0_goes_4 := dk_seg dksX0_goes_3 22 rfl rfl
theorem dksX0_goes_5 : cX0_goes.data.toList.drop 118 = dktX0_goes_5 := dk_seg dksX0_goes_4 24 rfl rfl
theorem dksX0_goes_6 : cX0_goes.data.toList.drop 141 = dktX0_goes_6 := dk_seg dksX0_goes_5 23 rfl rfl
theorem dksX0_goes_7 : cX0_goes.data.toList.drop 165 = dktX0_goes_7 := dk_seg dksX0_goes_6 24 rfl rfl
theorem dksX0_goes_8 : cX0_goes.data.toList.drop 187 = dktX0_goes_8 := dk_seg dksX0_goes_7 22 rfl rfl
theorem dX0_goes_0 : decode cX0_goes 0 = .ok (.iload_n 1, 1) := dk_27 (dk_at dksX0_goes_0 0 rfl rfl)
theorem dX0_goes_1 : decode cX0_goes 1 = .ok (.aload_n 0, 1) := dk_42 (dk_at dksX0_goes_0 1 rfl rfl)
theorem dX0_goes_2 : decode cX0_goes 2 = .ok (.getfield 510, 3) := dk_180 1 254 (dk_at dksX0_goes_0 2 rfl rfl)
theorem dX0_goes_5 : decode cX0_goes 5 = .ok (.if_icmp .gt 34, 3) := dk_163 0 34 (dk_at dksX0_goes_0 5 rfl rfl)
theorem dX0_goes_8 : decode cX0_goes 8 = .ok (.iload_n 1, 1) := dk_27 (dk_at dksX0_goes_0 8 rfl rfl)
theorem dX0_goes_9 : decode cX0_goes 9 = .ok (.aload_n 0, 1) := dk_42 (dk_at dksX0_goes_0 9 rfl rfl)
theorem dX0_goes_10 : decode cX0_goes 10 = .ok (.getfield 510, 3) := dk_180 1 254 (dk_at dksX0_goes_0 10 rfl rfl)
theorem dX0_goes_13 : decode cX0_goes 13 = .ok (.if_icmp .ne 59, 3) := dk_160 0 59 (dk_at dksX0_goes_0 13 rfl rfl)
theorem dX0_goes_16 : decode cX0_goes 16 = .ok (.iload_n 1, 1) := dk_27 (dk_at dksX0_goes_0 16 rfl rfl)
theorem dX0_goes_17 : decode cX0_goes 17 = .ok (.ifCond .le 55, 3) := dk_158 0 55 (dk_at dksX0_goes_0 17 rfl rfl)
theorem dX0_goes_20 : decode cX0_goes 20 = .ok (.aload_n 0, 1) := dk_42 (dk_at dksX0_goes_0 20 rfl rfl)
theorem dX0_goes_21 : decode cX0_goes 21 = .ok (.getfield 105, 3) := dk_180 0 105 (dk_at dksX0_goes_0 21 rfl rfl)
theorem dX0_goes_24 : decode cX0_goes 24 = .ok (.iload_n 1, 1) := dk_27 (dk_at dksX0_goes_1 0 rfl rfl)
theorem dX0_goes_25 : decode cX0_goes 25 = .ok (.iconst 1, 1) := dk_4 (dk_at dksX0_goes_1 1 rfl rfl)
theorem dX0_goes_26 : decode cX0_goes 26 = .ok (.isub, 1) := dk_100 (dk_at dksX0_goes_1 2 rfl rfl)
theorem dX0_goes_27 : decode cX0_goes 27 = .ok (.iaload, 1) := dk_46 (dk_at dksX0_goes_1 3 rfl rfl)
theorem dX0_goes_28 : decode cX0_goes 28 = .ok (.aload_n 0, 1) := dk_42 (dk_at dksX0_goes_1 4 rfl rfl)
theorem dX0_goes_29 : decode cX0_goes 29 = .ok (.getfield 111, 3) := dk_180 0 111 (dk_at dksX0_goes_1 5 rfl rfl)
theorem dX0_goes_32 : decode cX0_goes 32 = .ok (.iload_n 1, 1) := dk_27 (dk_at dksX0_goes_1 8 rfl rfl)
theorem dX0_goes_33 : decode cX0_goes 33 = .ok (.iconst 1, 1) := dk_4 (dk_at dksX0_goes_1 9 rfl rfl)
theorem dX0_goes_34 : decode cX0_goes 34 = .ok (.isub, 1) := dk_100 (dk_at dksX0_goes_1 10 rfl rfl)
theorem dX0_goes_35 : decode cX0_goes 35 = .ok (.iaload, 1) := dk_46 (dk_at dksX0_goes_1 11 rfl rfl)
theorem dX0_goes_36 : decode cX0_goes 36 = .ok (.if_icmp .ge 36, 3) := dk_162 0 36 (dk_at dksX0_goes_1 12 rfl rfl)
theorem dX0_goes_39 : decode cX0_goes 39 = .ok (.aload_n 0, 1) := dk_42 (dk_at dksX0_goes_1 15 rfl rfl)
theorem dX0_goes_40 : decode cX0_goes 40 = .ok (.iload_n 1, 1) := dk_27 (dk_at dksX0_goes_1 16 rfl rfl)
theorem dX0_goes_41 : decode cX0_goes 41 = .ok (.putfield 510, 3) := dk_181 1 254 (dk_at dksX0_goes_1 17 rfl rfl)
theorem dX0_goes_44 : decode cX0_goes 44 = .ok (.aload_n 0, 1) := dk_42 (dk_at dksX0_goes_1 20 rfl rfl)
theorem dX0_goes_45 : decode cX0_goes 45 = .ok (.getfield 102, 3) := dk_180 0 102 (dk_at dksX0_goes_1 21 rfl rfl)
theorem dX0_goes_48 : decode cX0_goes 48 = .ok (.iconst 0, 1) := dk_3 (dk_at dksX0_goes_2 0 rfl rfl)
theorem dX0_goes_49 : decode cX0_goes 49 = .ok (.aload_n 0, 1) := dk_42 (dk_at dksX0_goes_2 1 rfl rfl)
theorem dX0_goes_50 : decode cX0_goes 50 = .ok (.getfield 108, 3) := dk_180 0 108 (dk_at dksX0_goes_2 2 rfl rfl)
theorem dX0_goes_53 : decode cX0_goes 53 = .ok (.iconst 0, 1) := dk_3 (dk_at dksX0_goes_2 5 rfl rfl)
theorem dX0_goes_54 : decode cX0_goes 54 = .ok (.iload_n 1, 1) := dk_27 (dk_at dksX0_goes_2 6 rfl rfl)
theorem dX0_goes_55 : decode cX0_goes 55 = .ok (.invokestatic 216, 3) := dk_184 0 216 (dk_at dksX0_goes_2 7 rfl rfl)
theorem dX0_goes_58 : decode cX0_goes 58 = .ok (.aload_n 0, 1) := dk_42 (dk_at dksX0_goes_2 10 rfl rfl)
theorem dX0_goes_59 : decode cX0_goes 59 = .ok (.getfield 105, 3) := dk_180 0 105 (dk_at dksX0_goes_2 11 rfl rfl)
theorem dX0_goes_62 : decode cX0_goes 62 = .ok (.iconst 0, 1) := dk_3 (dk_at dksX0_goes_2 14 rfl rfl)
theorem dX0_goes_63 : decode cX0_goes 63 = .ok (.aload_n 0, 1) := dk_42 (dk_at dksX0_goes_2 15 rfl rfl)
theorem dX0_goes_64 : decode cX0_goes 64 = .ok (.getfield 111, 3) := dk_180 0 111 (dk_at dksX0_goes_2 16 rfl rfl)
theorem dX0_goes_67 : decode cX0_goes 67 = .ok (.iconst 0, 1) := dk_3 (dk_at dksX0_goes_2 19 rfl rfl)
theorem dX0_goes_68 : decode cX0_goes 68 = .ok (.iload_n 1, 1) := dk_27 (dk_at dksX0_goes_2 20 rfl rfl)
theorem dX0_goes_69 : decode cX0_goes 69 = .ok (.invokestatic 216, 3) := dk_184 0 216 (dk_at dksX0_goes_2 21 rfl rfl)
theorem dX0_goes_72 : decode cX0_goes 72 = .ok (.iconst 0, 1) := dk_3 (dk_at dksX0_goes_3 0 rfl rfl)
theorem dX0_goes_73 : decode cX0_goes 73 = .ok (.istore 5, 2) := dk_54 5 (dk_at dksX0_goes_3 1 rfl rfl)
theorem dX0_goes_75 : decode cX0_goes 75 = .ok (.iload 5, 2) := dk_21 5 (dk_at dksX0_goes_3 3 rfl rfl)
theorem dX0_goes_77 : decode cX0_goes 77 = .ok (.aload_n 0, 1) := dk_42 (dk_at dksX0_goes_3 5 rfl rfl)
theorem dX0_goes_78 : decode cX0_goes 78 = .ok (.getfield 379, 3) := dk_180 1 123 (dk_at dksX0_goes_3 6 rfl rfl)
theorem dX0_goes_81 : decode cX0_goes 81 = .ok (.if_icmp .ge 112, 3) := dk_162 0 112 (dk_at dksX0_goes_3 9 rfl rfl)
theorem dX0_goes_84 : decode cX0_goes 84 = .ok (.iload_n 2, 1) := dk_28 (dk_at dksX0_goes_3 12 rfl rfl)
theorem dX0_goes_85 : decode cX0_goes 85 = .ok (.iload 5, 2) := dk_21 5 (dk_at dksX0_goes_3 13 rfl rfl)
theorem dX0_goes_87 : decode cX0_goes 87 = .ok (.ishr, 1) := dk_122 (dk_at dksX0_goes_3 15 rfl rfl)
theorem dX0_goes_88 : decode cX0_goes 88 = .ok (.iconst 1, 1) := dk_4 (dk_at dksX0_goes_3 16 rfl rfl)
theorem dX0_goes_89 : decode cX0_goes 89 = .ok (.iand, 1) := dk_126 (dk_at dksX0_goes_3 17 rfl rfl)
theorem dX0_goes_90 : decode cX0_goes 90 = .ok (.iconst 1, 1) := dk_4 (dk_at dksX0_goes_3 18 rfl rfl)
theorem dX0_goes_91 : decode cX0_goes 91 = .ok (.if_icmp .ne 6, 3) := dk_160 0 6 (dk_at dksX0_goes_3 19 rfl rfl)
theorem dX0_goes_94 : decode cX0_goes 94 = .ok (.goto 93, 3) := dk_167 0 93 (dk_at dksX0_goes_4 0 rfl rfl)
theorem dX0_goes_97 : decode cX0_goes 97 = .ok (.iload 4, 2) := dk_21 4 (dk_at dksX0_goes_4 3 rfl rfl)
theorem dX0_goes_99 : decode cX0_goes 99 = .ok (.aload_n 0, 1) := dk_42 (dk_at dksX0_goes_4 5 rfl rfl)
theorem dX0_goes_100 : decode cX0_goes 100 = .ok (.iload_n 3, 1) := dk_29 (dk_at dksX0_goes_4 6 rfl rfl)
theorem dX0_goes_101 : decode cX0_goes 101 = .ok (.aload_n 0, 1) := dk_42 (dk_at dksX0_goes_4 7 rfl rfl)
theorem dX0_goes_102 : decode cX0_goes 102 = .ok (.getfield 51, 3) := dk_180 0 51 (dk_at dksX0_goes_4 8 rfl rfl)
theorem dX0_goes_105 : decode cX0_goes 105 = .ok (.iload 5, 2) := dk_21 5 (dk_at dksX0_goes_4 11 rfl rfl)
theorem dX0_goes_107 : decode cX0_goes 107 = .ok (.iaload, 1) := dk_46 (dk_at dksX0_goes_4 13 rfl rfl)
theorem dX0_goes_108 : decode cX0_goes 108 = .ok (.invokevirtual 513, 3) := dk_182 2 1 (dk_at dksX0_goes_4 14 rfl rfl)
theorem dX0_goes_111 : decode cX0_goes 111 = .ok (.iadd, 1) := dk_96 (dk_at dksX0_goes_4 17 rfl rfl)
theorem dX0_goes_112 : decode cX0_goes 112 = .ok (.aload_n 0, 1) := dk_42 (dk_at dksX0_goes_4 18 rfl rfl)
theorem dX0_goes_113 : decode cX0_goes 113 = .ok (.getfield 55, 3) := dk_180 0 55 (dk_at dksX0_goes_4 19 rfl rfl)
theorem dX0_goes_116 : decode cX0_goes 116 = .ok (.iload 5, 2) := dk_21 5 (dk_at dksX0_goes_4 22 rfl rfl)
theorem dX0_goes_118 : decode cX0_goes 118 = .ok (.iaload, 1) := dk_46 (dk_at dksX0_goes_5 0 rfl rfl)
theorem dX0_goes_119 : decode cX0_goes 119 = .ok (.invokestatic 485, 3) := dk_184 1 229 (dk_at dksX0_goes_5 1 rfl rfl)
theorem dX0_goes_122 : decode cX0_goes 122 = .ok (.istore 6, 2) := dk_54 6 (dk_at dksX0_goes_5 4 rfl rfl)
theorem dX0_goes_124 : decode cX0_goes 124 = .ok (.iload 6, 2) := dk_21 6 (dk_at dksX0_goes_5 6 rfl rfl)
theorem dX0_goes_126 : decode cX0_goes 126 = .ok (.aload_n 0, 1) := dk_42 (dk_at dksX0_goes_5 8 rfl rfl)
theorem dX0_goes_127 : decode cX0_goes 127 = .ok (.getfield 58, 3) := dk_180 0 58 (dk_at dksX0_goes_5 9 rfl rfl)
theorem dX0_goes_130 : decode cX0_goes 130 = .ok (.iload 5, 2) := dk_21 5 (dk_at dksX0_goes_5 12 rfl rfl)
theorem dX0_goes_132 : decode cX0_goes 132 = .ok (.iaload, 1) := dk_46 (dk_at dksX0_goes_5 14 rfl rfl)
theorem dX0_goes_133 : decode cX0_goes 133 = .ok (.if_icmp .gt 54, 3) := dk_163 0 54 (dk_at dksX0_goes_5 15 rfl rfl)
theorem dX0_goes_136 : decode cX0_goes 136 = .ok (.iload 6, 2) := dk_21 6 (dk_at dksX0_goes_5 18 rfl rfl)
theorem dX0_goes_138 : decode cX0_goes 138 = .ok (.sipush 400, 3) := dk_17 1 144 (dk_at dksX0_goes_5 20 rfl rfl)
theorem dX0_goes_141 : decode cX0_goes 141 = .ok (.if_icmp .lt 6, 3) := dk_161 0 6 (dk_at dksX0_goes_6 0 rfl rfl)
theorem dX0_goes_144 : decode cX0_goes 144 = .ok (.goto 43, 3) := dk_167 0 43 (dk_at dksX0_goes_6 3 rfl rfl)
theorem dX0_goes_147 : decode cX0_goes 147 = .ok (.aload_n 0, 1) := dk_42 (dk_at dksX0_goes_6 6 rfl rfl)
theorem dX0_goes_148 : decode cX0_goes 148 = .ok (.getfield 102, 3) := dk_180 0 102 (dk_at dksX0_goes_6 7 rfl rfl)
theorem dX0_goes_151 : decode cX0_goes 151 = .ok (.iload_n 1, 1) := dk_27 (dk_at dksX0_goes_6 10 rfl rfl)
theorem dX0_goes_152 : decode cX0_goes 152 = .ok (.iload 5, 2) := dk_21 5 (dk_at dksX0_goes_6 11 rfl rfl)
theorem dX0_goes_154 : decode cX0_goes 154 = .ok (.iastore, 1) := dk_79 (dk_at dksX0_goes_6 13 rfl rfl)
theorem dX0_goes_155 : decode cX0_goes 155 = .ok (.aload_n 0, 1) := dk_42 (dk_at dksX0_goes_6 14 rfl rfl)
theorem dX0_goes_156 : decode cX0_goes 156 = .ok (.getfield 105, 3) := dk_180 0 105 (dk_at dksX0_goes_6 15 rfl rfl)
theorem dX0_goes_159 : decode cX0_goes 159 = .ok (.iload_n 1, 1) := dk_27 (dk_at dksX0_goes_6 18 rfl rfl)
theorem dX0_goes_160 : decode cX0_goes 160 = .ok (.iload 6, 2) := dk_21 6 (dk_at dksX0_goes_6 19 rfl rfl)
theorem dX0_goes_162 : decode cX0_goes 162 = .ok (.iastore, 1) := dk_79 (dk_at dksX0_goes_6 21 rfl rfl)
theorem dX0_goes_163 : decode cX0_goes 163 = .ok (.aload_n 0, 1) := dk_42 (dk_at dksX0_goes_6 22 rfl rfl)
theorem dX0_goes_164 : decode cX0_goes 164 = .ok (.iload_n 1, 1) := dk_27 (dk_at dksX0_goes_6 23 rfl rfl)
theorem dX0_goes_165 : decode cX0_goes 165 = .ok (.iconst 1, 1) := dk_4 (dk_at dksX0_goes_7 0 rfl rfl)
theorem dX0_goes_166 : decode cX0_goes 166 = .ok (.iadd, 1) := dk_96 (dk_at dksX0_goes_7 1 rfl rfl)
theorem dX0_goes_167 : decode cX0_goes 167 = .ok (.iload_n 2, 1) := dk_28 (dk_at dksX0_goes_7 2 rfl rfl)
theorem dX0_goes_168 : decode cX0_goes 168 = .ok (.iconst 1, 1) := dk_4 (dk_at dksX0_goes_7 3 rfl rfl)
theorem dX0_goes_169 : decode cX0_goes 169 = .ok (.iload 5, 2) := dk_21 5 (dk_at dksX0_goes_7 4 rfl rfl)
theorem dX0_goes_171 : decode cX0_goes 171 = .ok (.ishl, 1) := dk_120 (dk_at dksX0_goes_7 6 rfl rfl)
theorem dX0_goes_172 : decode cX0_goes 172 = .ok (.ior, 1) := dk_128 (dk_at dksX0_goes_7 7 rfl rfl)
theorem dX0_goes_173 : decode cX0_goes 173 = .ok (.aload_n 0, 1) := dk_42 (dk_at dksX0_goes_7 8 rfl rfl)
theorem dX0_goes_174 : decode cX0_goes 174 = .ok (.getfield 51, 3) := dk_180 0 51 (dk_at dksX0_goes_7 9 rfl rfl)
theorem dX0_goes_177 : decode cX0_goes 177 = .ok (.iload 5, 2) := dk_21 5 (dk_at dksX0_goes_7 12 rfl rfl)
theorem dX0_goes_179 : decode cX0_goes 179 = .ok (.iaload, 1) := dk_46 (dk_at dksX0_goes_7 14 rfl rfl)
theorem dX0_goes_180 : decode cX0_goes 180 = .ok (.iload 6, 2) := dk_21 6 (dk_at dksX0_goes_7 15 rfl rfl)
theorem dX0_goes_182 : decode cX0_goes 182 = .ok (.iconst 1, 1) := dk_4 (dk_at dksX0_goes_7 17 rfl rfl)
theorem dX0_goes_183 : decode cX0_goes 183 = .ok (.iadd, 1) := dk_96 (dk_at dksX0_goes_7 18 rfl rfl)
theorem dX0_goes_184 : decode cX0_goes 184 = .ok (.invokevirtual 516, 3) := dk_182 2 4 (dk_at dksX0_goes_7 19 rfl rfl)
theorem dX0_goes_187 : decode cX0_goes 187 = .ok (.iinc 5 1, 3) := dk_132 5 1 (dk_at dksX0_goes_8 0 rfl rfl)
theorem dX0_goes_190 : decode cX0_goes 190 = .ok (.goto (-115), 3) := dk_167 255 141 (dk_at dksX0_goes_8 3 rfl rfl)
theorem dX0_goes_193 : decode cX0_goes 193 = .ok (.return_, 1) := dk_177 (dk_at dksX0_goes_8 6 rfl rfl)
def dkwX0_daysOf_2 : List UInt8 := [160, 0, 7, 3, 167, 0, 10, 42, 180, 0, 10, 180, 1, 251, 96, 172]
abbrev dktX0_daysOf_2 : List UInt8 := dkwX0_daysOf_2 ++ []
def dkwX0_daysOf_1 : List UInt8 := [180, 1, 248, 108, 42, 180, 0, 10, 180, 0, 160, 27, 46, 42, 180, 0, 10, 180, 0, 160, 28, 46]
abbrev dktX0_daysOf_1 : List UInt8 := dkwX0_daysOf_1 ++ dktX0_daysOf_2
def dkwX0_daysOf_0 : List UInt8 := [42, 180, 0, 10, 27, 28, 182, 1, 129, 42, 180, 0, 10, 180, 1, 248, 96, 4, 100, 42, 180, 0, 10]
abbrev dktX0_daysOf_0 : List UInt8 := dkwX0_daysOf_0 ++ dktX0_daysOf_1
theorem dksX0_daysOf_0 : cX0_daysOf.data.toList.drop 0 = dktX0_daysOf_0 := by decide +kernel
theorem dksX0_daysOf_1 : cX0_daysOf.data.toList.drop 23 = dktX0_daysOf_1 := dk_seg dksX0_daysOf_0 23 rfl rfl
theorem dksX0_daysOf_2 : cX0_daysOf.data.toList.drop 45 = dktX0_daysOf_2 := dk_seg dksX0_daysOf_1 22 rfl rfl
theorem dX0_daysOf_0 : decode cX0_daysOf 0 = .ok (.aload_n 0, 1) := dk_42 (dk_at dksX0_daysOf_0 0 rfl rfl)
theorem dX0_daysOf_1 : decode cX0_daysOf 1 = .ok (.getfield 10, 3) := dk_180 0 10 (dk_at dksX0_daysOf_0 1 rfl rfl)
theorem dX0_daysOf_4 : decode cX0_daysOf 4 = .ok (.iload_n 1, 1) := dk_27 (dk_at dksX0_daysOf_0 4 rfl rfl)
theorem dX0_daysOf_5 : decode cX0_daysOf 5 = .ok (.iload_n 2, 1) := dk_28 (dk_at dksX0_daysOf_0 5 rfl rfl)
theorem dX0_daysOf_6 : decode cX0_daysOf 6 = .ok (.invokevirtual 385, 3) := dk_182 1 129 (dk_at dksX0_daysOf_0 6 rfl rfl)
theorem dX0_daysOf_9 : decode cX0_daysOf 9 = .ok (.aload_n 0, 1) := dk_42 (dk_at dksX0_daysOf_0 9 rfl rfl)
theorem dX0_daysOf_10 : decode cX0_daysOf 10 = .ok (.getfield 10, 3) := dk_180 0 10 (dk_at dksX0_daysOf_0 10 rfl rfl)
theorem dX0_daysOf_13 : decode cX0_daysOf 13 = .ok (.getfield 504, 3) := dk_180 1 248 (dk_at dksX0_daysOf_0 13 rfl rfl)
theorem dX0_daysOf_16 : decode cX0_daysOf 16 = .ok (.iadd, 1) := dk_96 (dk_at dksX0_daysOf_0 16 rfl rfl)
theorem dX0_daysOf_17 : decode cX0_daysOf 17 = .ok (.iconst 1, 1) := dk_4 (dk_at dksX0_daysOf_0 17 rfl rfl)
theorem dX0_daysOf_18 : decode cX0_daysOf 18 = .ok (.isub, 1) := dk_100 (dk_at dksX0_daysOf_0 18 rfl rfl)
theorem dX0_daysOf_19 : decode cX0_daysOf 19 = .ok (.aload_n 0, 1) := dk_42 (dk_at dksX0_daysOf_0 19 rfl rfl)
theorem dX0_daysOf_20 : decode cX0_daysOf 20 = .ok (.getfield 10, 3) := dk_180 0 10 (dk_at dksX0_daysOf_0 20 rfl rfl)
theorem dX0_daysOf_23 : decode cX0_daysOf 23 = .ok (.getfield 504, 3) := dk_180 1 248 (dk_at dksX0_daysOf_1 0 rfl rfl)
theorem dX0_daysOf_26 : decode cX0_daysOf 26 = .ok (.idiv, 1) := dk_108 (dk_at dksX0_daysOf_1 3 rfl rfl)
theorem dX0_daysOf_27 : decode cX0_daysOf 27 = .ok (.aload_n 0, 1) := dk_42 (dk_at dksX0_daysOf_1 4 rfl rfl)
theorem dX0_daysOf_28 : decode cX0_daysOf 28 = .ok (.getfield 10, 3) := dk_180 0 10 (dk_at dksX0_daysOf_1 5 rfl rfl)
theorem dX0_daysOf_31 : decode cX0_daysOf 31 = .ok (.getfield 160, 3) := dk_180 0 160 (dk_at dksX0_daysOf_1 8 rfl rfl)
theorem dX0_daysOf_34 : decode cX0_daysOf 34 = .ok (.iload_n 1, 1) := dk_27 (dk_at dksX0_daysOf_1 11 rfl rfl)
theorem dX0_daysOf_35 : decode cX0_daysOf 35 = .ok (.iaload, 1) := dk_46 (dk_at dksX0_daysOf_1 12 rfl rfl)
theorem dX0_daysOf_36 : decode cX0_daysOf 36 = .ok (.aload_n 0, 1) := dk_42 (dk_at dksX0_daysOf_1 13 rfl rfl)
theorem dX0_daysOf_37 : decode cX0_daysOf 37 = .ok (.getfield 10, 3) := dk_180 0 10 (dk_at dksX0_daysOf_1 14 rfl rfl)
theorem dX0_daysOf_40 : decode cX0_daysOf 40 = .ok (.getfield 160, 3) := dk_180 0 160 (dk_at dksX0_daysOf_1 17 rfl rfl)
theorem dX0_daysOf_43 : decode cX0_daysOf 43 = .ok (.iload_n 2, 1) := dk_28 (dk_at dksX0_daysOf_1 20 rfl rfl)
theorem dX0_daysOf_44 : decode cX0_daysOf 44 = .ok (.iaload, 1) := dk_46 (dk_at dksX0_daysOf_1 21 rfl rfl)
theorem dX0_daysOf_45 : decode cX0_daysOf 45 = .ok (.if_icmp .ne 7, 3) := dk_160 0 7 (dk_at dksX0_daysOf_2 0 rfl rfl)
theorem dX0_daysOf_48 : decode cX0_daysOf 48 = .ok (.iconst 0, 1) := dk_3 (dk_at dksX0_daysOf_2 3 rfl rfl)
theorem dX0_daysOf_49 : decode cX0_daysOf 49 = .ok (.goto 10, 3) := dk_167 0 10 (dk_at dksX0_daysOf_2 4 rfl rfl)
theorem dX0_daysOf_52 : decode cX0_daysOf 52 = .ok (.aload_n 0, 1) := dk_42 (dk_at dksX0_daysOf_2 7 rfl rfl)
theorem dX0_daysOf_53 : decode cX0_daysOf 53 = .ok (.getfield 10, 3) := dk_180 0 10 (dk_at dksX0_daysOf_2 8 rfl rfl)
theorem dX0_daysOf_56 : decode cX0_daysOf 56 = .ok (.getfield 507, 3) := dk_180 1 251 (dk_at dksX0_daysOf_2 11 rfl rfl)
theorem dX0_daysOf_59 : decode cX0_daysOf 59 = .ok (.iadd, 1) := dk_96 (dk_at dksX0_daysOf_2 14 rfl rfl)
theorem dX0_daysOf_60 : decode cX0_daysOf 60 = .ok (.ireturn, 1) := dk_172 (dk_at dksX0_daysOf_2 15 rfl rfl)
def dkwX0_leg_2 : List UInt8 := [42, 180, 0, 111, 27, 46, 172]
abbrev dktX0_leg_2 : List UInt8 := dkwX0_leg_2 ++ []
def dkwX0_leg_1 : List UInt8 := [4, 184, 0, 127, 154, 0, 7, 2, 167, 0, 22, 28, 154, 0, 12, 42, 180, 0, 108, 27, 46, 167, 0, 9]
abbrev dktX0_leg_1 : List UInt8 := dkwX0_leg_1 ++ dktX0_leg_2
def dkwX0_leg_0 : List UInt8 := [42, 180, 0, 114, 2, 159, 0, 26, 27, 3, 42, 180, 0, 114, 4, 100, 184, 0, 127, 153, 0, 12, 28, 3]
abbrev dktX0_leg_0 : List UInt8 := dkwX0_leg_0 ++ dktX0_leg_1
theorem dksX0_leg_0 : cX0_leg.data.toList.drop 0 = dktX0_leg_0 := by decide +kernel
theorem dksX0_leg_1 : cX0_leg.data.toList.drop 24 = dktX0_leg_1 := dk_seg dksX0_leg_0 24 rfl rfl
theorem dksX0_leg_2 : cX0_leg.data.toList.drop 48 = dktX0_leg_2 := dk_seg dksX0_leg_1 24 rfl rfl
theorem dX0_leg_0 : decode cX0_leg 0 = .ok (.aload_n 0, 1) := dk_42 (dk_at dksX0_leg_0 0 rfl rfl)
theorem dX0_leg_1 : decode cX0_leg 1 = .ok (.getfield 114, 3) := dk_180 0 114 (dk_at dksX0_leg_0 1 rfl rfl)
theorem dX0_leg_4 : decode cX0_leg 4 = .ok (.iconst (-1), 1) := dk_2 (dk_at dksX0_leg_0 4 rfl rfl)
theorem dX0_leg_5 : decode cX0_leg 5 = .ok (.if_icmp .eq 26, 3) := dk_159 0 26 (dk_at dksX0_leg_0 5 rfl rfl)
theorem dX0_leg_8 : decode cX0_leg 8 = .ok (.iload_n 1, 1) := dk_27 (dk_at dksX0_leg_0 8 rfl rfl)
theorem dX0_leg_9 : decode cX0_leg 9 = .ok (.iconst 0, 1) := dk_3 (dk_at dksX0_leg_0 9 rfl rfl)
theorem dX0_leg_10 : decode cX0_leg 10 = .ok (.aload_n 0, 1) := dk_42 (dk_at dksX0_leg_0 10 rfl rfl)
theorem dX0_leg_11 : decode cX0_leg 11 = .ok (.getfield 114, 3) := dk_180 0 114 (dk_at dksX0_leg_0 11 rfl rfl)
theorem dX0_leg_14 : decode cX0_leg 14 = .ok (.iconst 1, 1) := dk_4 (dk_at dksX0_leg_0 14 rfl rfl)
theorem dX0_leg_15 : decode cX0_leg 15 = .ok (.isub, 1) := dk_100 (dk_at dksX0_leg_0 15 rfl rfl)
theorem dX0_leg_16 : decode cX0_leg 16 = .ok (.invokestatic 127, 3) := dk_184 0 127 (dk_at dksX0_leg_0 16 rfl rfl)
theorem dX0_leg_19 : decode cX0_leg 19 = .ok (.ifCond .eq 12, 3) := dk_153 0 12 (dk_at dksX0_leg_0 19 rfl rfl)
theorem dX0_leg_22 : decode cX0_leg 22 = .ok (.iload_n 2, 1) := dk_28 (dk_at dksX0_leg_0 22 rfl rfl)
theorem dX0_leg_23 : decode cX0_leg 23 = .ok (.iconst 0, 1) := dk_3 (dk_at dksX0_leg_0 23 rfl rfl)
theorem dX0_leg_24 : decode cX0_leg 24 = .ok (.iconst 1, 1) := dk_4 (dk_at dksX0_leg_1 0 rfl rfl)
theorem dX0_leg_25 : decode cX0_leg 25 = .ok (.invokestatic 127, 3) := dk_184 0 127 (dk_at dksX0_leg_1 1 rfl rfl)
theorem dX0_leg_28 : decode cX0_leg 28 = .ok (.ifCond .ne 7, 3) := dk_154 0 7 (dk_at dksX0_leg_1 4 rfl rfl)
theorem dX0_leg_31 : decode cX0_leg 31 = .ok (.iconst (-1), 1) := dk_2 (dk_at dksX0_leg_1 7 rfl rfl)
theorem dX0_leg_32 : decode cX0_leg 32 = .ok (.goto 22, 3) := dk_167 0 22 (dk_at dksX0_leg_1 8 rfl rfl)
theorem dX0_leg_35 : decode cX0_leg 35 = .ok (.iload_n 2, 1) := dk_28 (dk_at dksX0_leg_1 11 rfl rfl)
theorem dX0_leg_36 : decode cX0_leg 36 = .ok (.ifCond .ne 12, 3) := dk_154 0 12 (dk_at dksX0_leg_1 12 rfl rfl)
theorem dX0_leg_39 : decode cX0_leg 39 = .ok (.aload_n 0, 1) := dk_42 (dk_at dksX0_leg_1 15 rfl rfl)
theorem dX0_leg_40 : decode cX0_leg 40 = .ok (.getfield 108, 3) := dk_180 0 108 (dk_at dksX0_leg_1 16 rfl rfl)
theorem dX0_leg_43 : decode cX0_leg 43 = .ok (.iload_n 1, 1) := dk_27 (dk_at dksX0_leg_1 19 rfl rfl)
theorem dX0_leg_44 : decode cX0_leg 44 = .ok (.iaload, 1) := dk_46 (dk_at dksX0_leg_1 20 rfl rfl)
theorem dX0_leg_45 : decode cX0_leg 45 = .ok (.goto 9, 3) := dk_167 0 9 (dk_at dksX0_leg_1 21 rfl rfl)
theorem dX0_leg_48 : decode cX0_leg 48 = .ok (.aload_n 0, 1) := dk_42 (dk_at dksX0_leg_2 0 rfl rfl)
theorem dX0_leg_49 : decode cX0_leg 49 = .ok (.getfield 111, 3) := dk_180 0 111 (dk_at dksX0_leg_2 1 rfl rfl)
theorem dX0_leg_52 : decode cX0_leg 52 = .ok (.iload_n 1, 1) := dk_27 (dk_at dksX0_leg_2 4 rfl rfl)
theorem dX0_leg_53 : decode cX0_leg 53 = .ok (.iaload, 1) := dk_46 (dk_at dksX0_leg_2 5 rfl rfl)
theorem dX0_leg_54 : decode cX0_leg 54 = .ok (.ireturn, 1) := dk_172 (dk_at dksX0_leg_2 6 rfl rfl)
def dkwX0_doors_3 : List UInt8 := [21, 4, 154, 0, 6, 21, 6, 172, 21, 6, 54, 5, 132, 6, 1, 167, 255, 221, 21, 5, 172]
abbrev dktX0_doors_3 : List UInt8 := dkwX0_doors_3 ++ []
def dkwX0_doors_2 : List UInt8 := [3, 54, 6, 21, 6, 27, 163, 0, 35, 27, 28, 29, 21, 6, 184, 2, 17, 154, 0, 6, 167, 0, 15]
abbrev dktX0_doors_2 : List UInt8 := dkwX0_doors_2 ++ dktX0_doors_3
def dkwX0_doors_1 : List UInt8 := [29, 3, 28, 184, 0, 127, 153, 0, 13, 21, 4, 3, 4, 184, 0, 127, 154, 0, 5, 2, 172, 2, 54, 5]
abbrev dktX0_doors_1 : List UInt8 := dkwX0_doors_1 ++ dktX0_doors_2
def dkwX0_doors_0 : List UInt8 := [27, 4, 16, 60, 184, 0, 127, 153, 0, 36, 28, 4, 16, 12, 27, 184, 2, 14, 184, 0, 127, 153, 0, 22]
abbrev dktX0_doors_0 : List UInt8 := dkwX0_doors_0 ++ dktX0_doors_1
theorem dksX0_doors_0 : cX0_doors.data.toList.drop 0 = dktX0_doors_0 := by decide +kernel
theorem dksX0_doors_1 : cX0_doors.data.toList.drop 24 = dktX0_doors_1 := dk_seg dksX0_doors_0 24 rfl rfl
theorem dksX0_doors_2 : cX0_doors.data.toList.drop 48 = dktX0_doors_2 := dk_seg dksX0_doors_1 24 rfl rfl
theorem dksX0_doors_3 : cX0_doors.data.toList.drop 71 = dktX0_doors_3 := dk_seg dksX0_doors_2 23 rfl rfl
theorem dX0_doors_0 : decode cX0_doors 0 = .ok (.iload_n 1, 1) := dk_27 (dk_at dksX0_doors_0 0 rfl rfl)
theorem dX0_doors_1 : decode cX0_doors 1 = .ok (.iconst 1, 1) := dk_4 (dk_at dksX0_doors_0 1 rfl rfl)
theorem dX0_doors_2 : decode cX0_doors 2 = .ok (.bipush 60, 2) := dk_16 60 (dk_at dksX0_doors_0 2 rfl rfl)
theorem dX0_doors_4 : decode cX0_doors 4 = .ok (.invokestatic 127, 3) := dk_184 0 127 (dk_at dksX0_doors_0 4 rfl rfl)
theorem dX0_doors_7 : decode cX0_doors 7 = .ok (.ifCond .eq 36, 3) := dk_153 0 36 (dk_at dksX0_doors_0 7 rfl rfl)
theorem dX0_doors_10 : decode cX0_doors 10 = .ok (.iload_n 2, 1) := dk_28 (dk_at dksX0_doors_0 10 rfl rfl)
theorem dX0_doors_11 : decode cX0_doors 11 = .ok (.iconst 1, 1) := dk_4 (dk_at dksX0_doors_0 11 rfl rfl)
theorem dX0_doors_12 : decode cX0_doors 12 = .ok (.bipush 12, 2) := dk_16 12 (dk_at dksX0_doors_0 12 rfl rfl)
theorem dX0_doors_14 : decode cX0_doors 14 = .ok (.iload_n 1, 1) := dk_27 (dk_at dksX0_doors_0 14 rfl rfl)
theorem dX0_doors_15 : decode cX0_doors 15 = .ok (.invokestatic 526, 3) := dk_184 2 14 (dk_at dksX0_doors_0 15 rfl rfl)
theorem dX0_doors_18 : decode cX0_doors 18 = .ok (.invokestatic 127, 3) := dk_184 0 127 (dk_at dksX0_doors_0 18 rfl rfl)
theorem dX0_doors_21 : decode cX0_doors 21 = .ok (.ifCond .eq 22, 3) := dk_153 0 22 (dk_at dksX0_doors_0 21 rfl rfl)
theorem dX0_doors_24 : decode cX0_doors 24 = .ok (.iload_n 3, 1) := dk_29 (dk_at dksX0_doors_1 0 rfl rfl)
theorem dX0_doors_25 : decode cX0_doors 25 = .ok (.iconst 0, 1) := dk_3 (dk_at dksX0_doors_1 1 rfl rfl)
theorem dX0_doors_26 : decode cX0_doors 26 = .ok (.iload_n 2, 1) := dk_28 (dk_at dksX0_doors_1 2 rfl rfl)
theorem dX0_doors_27 : decode cX0_doors 27 = .ok (.invokestatic 127, 3) := dk_184 0 127 (dk_at dksX0_doors_1 3 rfl rfl)
theorem dX0_doors_30 : decode cX0_doors 30 = .ok (.ifCond .eq 13, 3) := dk_153 0 13 (dk_at dksX0_doors_1 6 rfl rfl)
theorem dX0_doors_33 : decode cX0_doors 33 = .ok (.iload 4, 2) := dk_21 4 (dk_at dksX0_doors_1 9 rfl rfl)
theorem dX0_doors_35 : decode cX0_doors 35 = .ok (.iconst 0, 1) := dk_3 (dk_at dksX0_doors_1 11 rfl rfl)
theorem dX0_doors_36 : decode cX0_doors 36 = .ok (.iconst 1, 1) := dk_4 (dk_at dksX0_doors_1 12 rfl rfl)
theorem dX0_doors_37 : decode cX0_doors 37 = .ok (.invokestatic 127, 3) := dk_184 0 127 (dk_at dksX0_doors_1 13 rfl rfl)
theorem dX0_doors_40 : decode cX0_doors 40 = .ok (.ifCond .ne 5, 3) := dk_154 0 5 (dk_at dksX0_doors_1 16 rfl rfl)
theorem dX0_doors_43 : decode cX0_doors 43 = .ok (.iconst (-1), 1) := dk_2 (dk_at dksX0_doors_1 19 rfl rfl)
theorem dX0_doors_44 : decode cX0_doors 44 = .ok (.ireturn, 1) := dk_172 (dk_at dksX0_doors_1 20 rfl rfl)
theorem dX0_doors_45 : decode cX0_doors 45 = .ok (.iconst (-1), 1) := dk_2 (dk_at dksX0_doors_1 21 rfl rfl)
theorem dX0_doors_46 : decode cX0_doors 46 = .ok (.istore 5, 2) := dk_54 5 (dk_at dksX0_doors_1 22 rfl rfl)
theorem dX0_doors_48 : decode cX0_doors 48 = .ok (.iconst 0, 1) := dk_3 (dk_at dksX0_doors_2 0 rfl rfl)
theorem dX0_doors_49 : decode cX0_doors 49 = .ok (.istore 6, 2) := dk_54 6 (dk_at dksX0_doors_2 1 rfl rfl)
theorem dX0_doors_51 : decode cX0_doors 51 = .ok (.iload 6, 2) := dk_21 6 (dk_at dksX0_doors_2 3 rfl rfl)
theorem dX0_doors_53 : decode cX0_doors 53 = .ok (.iload_n 1, 1) := dk_27 (dk_at dksX0_doors_2 5 rfl rfl)
theorem dX0_doors_54 : decode cX0_doors 54 = .ok (.if_icmp .gt 35, 3) := dk_163 0 35 (dk_at dksX0_doors_2 6 rfl rfl)
theorem dX0_doors_57 : decode cX0_doors 57 = .ok (.iload_n 1, 1) := dk_27 (dk_at dksX0_doors_2 9 rfl rfl)
theorem dX0_doors_58 : decode cX0_doors 58 = .ok (.iload_n 2, 1) := dk_28 (dk_at dksX0_doors_2 10 rfl rfl)
theorem dX0_doors_59 : decode cX0_doors 59 = .ok (.iload_n 3, 1) := dk_29 (dk_at dksX0_doors_2 11 rfl rfl)
theorem dX0_doors_60 : decode cX0_doors 60 = .ok (.iload 6, 2) := dk_21 6 (dk_at dksX0_doors_2 12 rfl rfl)
theorem dX0_doors_62 : decode cX0_doors 62 = .ok (.invokestatic 529, 3) := dk_184 2 17 (dk_at dksX0_doors_2 14 rfl rfl)
theorem dX0_doors_65 : decode cX0_doors 65 = .ok (.ifCond .ne 6, 3) := dk_154 0 6 (dk_at dksX0_doors_2 17 rfl rfl)
theorem dX0_doors_68 : decode cX0_doors 68 = .ok (.goto 15, 3) := dk_167 0 15 (dk_at dksX0_doors_2 20 rfl rfl)
theorem dX0_doors_71 : decode cX0_doors 71 = .ok (.iload 4, 2) := dk_21 4 (dk_at dksX0_doors_3 0 rfl rfl)
theorem dX0_doors_73 : decode cX0_doors 73 = .ok (.ifCond .ne 6, 3) := dk_154 0 6 (dk_at dksX0_doors_3 2 rfl rfl)
theorem dX0_doors_76 : decode cX0_doors 76 = .ok (.iload 6, 2) := dk_21 6 (dk_at dksX0_doors_3 5 rfl rfl)
theorem dX0_doors_78 : decode cX0_doors 78 = .ok (.ireturn, 1) := dk_172 (dk_at dksX0_doors_3 7 rfl rfl)
theorem dX0_doors_79 : decode cX0_doors 79 = .ok (.iload 6, 2) := dk_21 6 (dk_at dksX0_doors_3 8 rfl rfl)
theorem dX0_doors_81 : decode cX0_doors 81 = .ok (.istore 5, 2) := dk_54 5 (dk_at dksX0_doors_3 10 rfl rfl)
theorem dX0_doors_83 : decode cX0_doors 83 = .ok (.iinc 6 1, 3) := dk_132 6 1 (dk_at dksX0_doors_3 12 rfl rfl)
theorem dX0_doors_86 : decode cX0_doors 86 = .ok (.goto (-35), 3) := dk_167 255 221 (dk_at dksX0_doors_3 15 rfl rfl)
theorem dX0_doors_89 : decode cX0_doors 89 = .ok (.iload 5, 2) := dk_21 5 (dk_at dksX0_doors_3 18 rfl rfl)
theorem dX0_doors_91 : decode cX0_doors 91 = .ok (.ireturn, 1) := dk_172 (dk_at dksX0_doors_3 20 rfl rfl)
def dkwX0_mayBe_4 : List UInt8 := [20, 2, 12, 22, 6, 105, 22, 8, 148, 155, 0, 7, 4, 167, 0, 4, 3, 172]
abbrev dktX0_mayBe_4 : List UInt8 := dkwX0_mayBe_4 ++ []
def dkwX0_mayBe_3 : List UInt8 := [167, 255, 194, 26, 27, 184, 2, 8, 55, 8, 20, 2, 12, 22, 4, 105, 22, 8, 148, 155, 0, 19]
abbrev dktX0_mayBe_3 : List UInt8 := dkwX0_mayBe_3 ++ dktX0_mayBe_4
def dkwX0_mayBe_2 : List UInt8 := [97, 55, 4, 22, 6, 21, 8, 28, 161, 0, 8, 22, 9, 167, 0, 4, 9, 97, 55, 6, 132, 8, 1]
abbrev dktX0_mayBe_2 : List UInt8 := dkwX0_mayBe_2 ++ dktX0_mayBe_3
def dkwX0_mayBe_1 : List UInt8 := [27, 21, 8, 100, 184, 2, 8, 105, 55, 9, 22, 4, 21, 8, 28, 163, 0, 8, 22, 9, 167, 0, 4, 9]
abbrev dktX0_mayBe_1 : List UInt8 := dkwX0_mayBe_1 ++ dktX0_mayBe_2
def dkwX0_mayBe_0 : List UInt8 := [9, 55, 4, 9, 55, 6, 3, 54, 8, 21, 8, 27, 163, 0, 62, 29, 21, 8, 184, 2, 8, 26, 29, 100]
abbrev dktX0_mayBe_0 : List UInt8 := dkwX0_mayBe_0 ++ dktX0_mayBe_1
theorem dksX0_mayBe_0 : cX0_mayBe.data.toList.drop 0 = dktX0_mayBe_0 := by decide +kernel
theorem dksX0_mayBe_1 : cX0_mayBe.data.toList.drop 24 = dktX0_mayBe_1 := dk_seg dksX0_mayBe_0 24 rfl rfl
theorem dksX0_mayBe_2 : cX0_mayBe.data.toList.drop 48 = dktX0_mayBe_2 := dk_seg dksX0_mayBe_1 24 rfl rfl
theorem dksX0_mayBe_3 : cX0_mayBe.data.toList.drop 71 = dktX0_mayBe_3 := dk_seg dksX0_mayBe_2 23 rfl rfl
theorem dksX0_mayBe_4 : cX0_mayBe.data.toList.drop 93 = dktX0_mayBe_4 := dk_seg dksX0_mayBe_3 22 rfl rfl
theorem dX0_mayBe_0 : decode cX0_mayBe 0 = .ok (.lconst 0, 1) := dk_9 (dk_at dksX0_mayBe_0 0 rfl rfl)
theorem dX0_mayBe_1 : decode cX0_mayBe 1 = .ok (.lstore 4, 2) := dk_55 4 (dk_at dksX0_mayBe_0 1 rfl rfl)
theorem dX0_mayBe_3 : decode cX0_mayBe 3 = .ok (.lconst 0, 1) := dk_9 (dk_at dksX0_mayBe_0 3 rfl rfl)
theorem dX0_mayBe_4 : decode cX0_mayBe 4 = .ok (.lstore 6, 2) := dk_55 6 (dk_at dksX0_mayBe_0 4 rfl rfl)
theorem dX0_mayBe_6 : decode cX0_mayBe 6 = .ok (.iconst 0, 1) := dk_3 (dk_at dksX0_mayBe_0 6 rfl rfl)
theorem dX0_mayBe_7 : decode cX0_mayBe 7 = .ok (.istore 8, 2) := dk_54 8 (dk_at dksX0_mayBe_0 7 rfl rfl)
theorem dX0_mayBe_9 : decode cX0_mayBe 9 = .ok (.iload 8, 2) := dk_21 8 (dk_at dksX0_mayBe_0 9 rfl rfl)
theorem dX0_mayBe_11 : decode cX0_mayBe 11 = .ok (.iload_n 1, 1) := dk_27 (dk_at dksX0_mayBe_0 11 rfl rfl)
theorem dX0_mayBe_12 : decode cX0_mayBe 12 = .ok (.if_icmp .gt 62, 3) := dk_163 0 62 (dk_at dksX0_mayBe_0 12 rfl rfl)
theorem dX0_mayBe_15 : decode cX0_mayBe 15 = .ok (.iload_n 3, 1) := dk_29 (dk_at dksX0_mayBe_0 15 rfl rfl)
theorem dX0_mayBe_16 : decode cX0_mayBe 16 = .ok (.iload 8, 2) := dk_21 8 (dk_at dksX0_mayBe_0 16 rfl rfl)
theorem dX0_mayBe_18 : decode cX0_mayBe 18 = .ok (.invokestatic 520, 3) := dk_184 2 8 (dk_at dksX0_mayBe_0 18 rfl rfl)
theorem dX0_mayBe_21 : decode cX0_mayBe 21 = .ok (.iload_n 0, 1) := dk_26 (dk_at dksX0_mayBe_0 21 rfl rfl)
theorem dX0_mayBe_22 : decode cX0_mayBe 22 = .ok (.iload_n 3, 1) := dk_29 (dk_at dksX0_mayBe_0 22 rfl rfl)
theorem dX0_mayBe_23 : decode cX0_mayBe 23 = .ok (.isub, 1) := dk_100 (dk_at dksX0_mayBe_0 23 rfl rfl)
theorem dX0_mayBe_24 : decode cX0_mayBe 24 = .ok (.iload_n 1, 1) := dk_27 (dk_at dksX0_mayBe_1 0 rfl rfl)
theorem dX0_mayBe_25 : decode cX0_mayBe 25 = .ok (.iload 8, 2) := dk_21 8 (dk_at dksX0_mayBe_1 1 rfl rfl)
theorem dX0_mayBe_27 : decode cX0_mayBe 27 = .ok (.isub, 1) := dk_100 (dk_at dksX0_mayBe_1 3 rfl rfl)
theorem dX0_mayBe_28 : decode cX0_mayBe 28 = .ok (.invokestatic 520, 3) := dk_184 2 8 (dk_at dksX0_mayBe_1 4 rfl rfl)
theorem dX0_mayBe_31 : decode cX0_mayBe 31 = .ok (.lmul, 1) := dk_105 (dk_at dksX0_mayBe_1 7 rfl rfl)
theorem dX0_mayBe_32 : decode cX0_mayBe 32 = .ok (.lstore 9, 2) := dk_55 9 (dk_at dksX0_mayBe_1 8 rfl rfl)
theorem dX0_mayBe_34 : decode cX0_mayBe 34 = .ok (.lload 4, 2) := dk_22 4 (dk_at dksX0_mayBe_1 10 rfl rfl)
theorem dX0_mayBe_36 : decode cX0_mayBe 36 = .ok (.iload 8, 2) := dk_21 8 (dk_at dksX0_mayBe_1 12 rfl rfl)
theorem dX0_mayBe_38 : decode cX0_mayBe 38 = .ok (.iload_n 2, 1) := dk_28 (dk_at dksX0_mayBe_1 14 rfl rfl)
theorem dX0_mayBe_39 : decode cX0_mayBe 39 = .ok (.if_icmp .gt 8, 3) := dk_163 0 8 (dk_at dksX0_mayBe_1 15 rfl rfl)
theorem dX0_mayBe_42 : decode cX0_mayBe 42 = .ok (.lload 9, 2) := dk_22 9 (dk_at dksX0_mayBe_1 18 rfl rfl)
theorem dX0_mayBe_44 : decode cX0_mayBe 44 = .ok (.goto 4, 3) := dk_167 0 4 (dk_at dksX0_mayBe_1 20 rfl rfl)
theorem dX0_mayBe_47 : decode cX0_mayBe 47 = .ok (.lconst 0, 1) := dk_9 (dk_at dksX0_mayBe_1 23 rfl rfl)
theorem dX0_mayBe_48 : decode cX0_mayBe 48 = .ok (.ladd, 1) := dk_97 (dk_at dksX0_mayBe_2 0 rfl rfl)
theorem dX0_mayBe_49 : decode cX0_mayBe 49 = .ok (.lstore 4, 2) := dk_55 4 (dk_at dksX0_mayBe_2 1 rfl rfl)
theorem dX0_mayBe_51 : decode cX0_mayBe 51 = .ok (.lload 6, 2) := dk_22 6 (dk_at dksX0_mayBe_2 3 rfl rfl)
theorem dX0_mayBe_53 : decode cX0_mayBe 53 = .ok (.iload 8, 2) := dk_21 8 (dk_at dksX0_mayBe_2 5 rfl rfl)
theorem dX0_mayBe_55 : decode cX0_mayBe 55 = .ok (.iload_n 2, 1) := dk_28 (dk_at dksX0_mayBe_2 7 rfl rfl)
theorem dX0_mayBe_56 : decode cX0_mayBe 56 = .ok (.if_icmp .lt 8, 3) := dk_161 0 8 (dk_at dksX0_mayBe_2 8 rfl rfl)
theorem dX0_mayBe_59 : decode cX0_mayBe 59 = .ok (.lload 9, 2) := dk_22 9 (dk_at dksX0_mayBe_2 11 rfl rfl)
theorem dX0_mayBe_61 : decode cX0_mayBe 61 = .ok (.goto 4, 3) := dk_167 0 4 (dk_at dksX0_mayBe_2 13 rfl rfl)
theorem dX0_mayBe_64 : decode cX0_mayBe 64 = .ok (.lconst 0, 1) := dk_9 (dk_at dksX0_mayBe_2 16 rfl rfl)
theorem dX0_mayBe_65 : decode cX0_mayBe 65 = .ok (.ladd, 1) := dk_97 (dk_at dksX0_mayBe_2 17 rfl rfl)
theorem dX0_mayBe_66 : decode cX0_mayBe 66 = .ok (.lstore 6, 2) := dk_55 6 (dk_at dksX0_mayBe_2 18 rfl rfl)
theorem dX0_mayBe_68 : decode cX0_mayBe 68 = .ok (.iinc 8 1, 3) := dk_132 8 1 (dk_at dksX0_mayBe_2 20 rfl rfl)
theorem dX0_mayBe_71 : decode cX0_mayBe 71 = .ok (.goto (-62), 3) := dk_167 255 194 (dk_at dksX0_mayBe_3 0 rfl rfl)
theorem dX0_mayBe_74 : decode cX0_mayBe 74 = .ok (.iload_n 0, 1) := dk_26 (dk_at dksX0_mayBe_3 3 rfl rfl)
theorem dX0_mayBe_75 : decode cX0_mayBe 75 = .ok (.iload_n 1, 1) := dk_27 (dk_at dksX0_mayBe_3 4 rfl rfl)
theorem dX0_mayBe_76 : decode cX0_mayBe 76 = .ok (.invokestatic 520, 3) := dk_184 2 8 (dk_at dksX0_mayBe_3 5 rfl rfl)
theorem dX0_mayBe_79 : decode cX0_mayBe 79 = .ok (.lstore 8, 2) := dk_55 8 (dk_at dksX0_mayBe_3 8 rfl rfl)
theorem dX0_mayBe_81 : decode cX0_mayBe 81 = .ok (.ldc2_w 524, 3) := dk_20 2 12 (dk_at dksX0_mayBe_3 10 rfl rfl)
theorem dX0_mayBe_84 : decode cX0_mayBe 84 = .ok (.lload 4, 2) := dk_22 4 (dk_at dksX0_mayBe_3 13 rfl rfl)
theorem dX0_mayBe_86 : decode cX0_mayBe 86 = .ok (.lmul, 1) := dk_105 (dk_at dksX0_mayBe_3 15 rfl rfl)
theorem dX0_mayBe_87 : decode cX0_mayBe 87 = .ok (.lload 8, 2) := dk_22 8 (dk_at dksX0_mayBe_3 16 rfl rfl)
theorem dX0_mayBe_89 : decode cX0_mayBe 89 = .ok (.lcmp, 1) := dk_148 (dk_at dksX0_mayBe_3 18 rfl rfl)
theorem dX0_mayBe_90 : decode cX0_mayBe 90 = .ok (.ifCond .lt 19, 3) := dk_155 0 19 (dk_at dksX0_mayBe_3 19 rfl rfl)
theorem dX0_mayBe_93 : decode cX0_mayBe 93 = .ok (.ldc2_w 524, 3) := dk_20 2 12 (dk_at dksX0_mayBe_4 0 rfl rfl)
theorem dX0_mayBe_96 : decode cX0_mayBe 96 = .ok (.lload 6, 2) := dk_22 6 (dk_at dksX0_mayBe_4 3 rfl rfl)
theorem dX0_mayBe_98 : decode cX0_mayBe 98 = .ok (.lmul, 1) := dk_105 (dk_at dksX0_mayBe_4 5 rfl rfl)
theorem dX0_mayBe_99 : decode cX0_mayBe 99 = .ok (.lload 8, 2) := dk_22 8 (dk_at dksX0_mayBe_4 6 rfl rfl)
theorem dX0_mayBe_101 : decode cX0_mayBe 101 = .ok (.lcmp, 1) := dk_148 (dk_at dksX0_mayBe_4 8 rfl rfl)
theorem dX0_mayBe_102 : decode cX0_mayBe 102 = .ok (.ifCond .lt 7, 3) := dk_155 0 7 (dk_at dksX0_mayBe_4 9 rfl rfl)
theorem dX0_mayBe_105 : decode cX0_mayBe 105 = .ok (.iconst 1, 1) := dk_4 (dk_at dksX0_mayBe_4 12 rfl rfl)
theorem dX0_mayBe_106 : decode cX0_mayBe 106 = .ok (.goto 4, 3) := dk_167 0 4 (dk_at dksX0_mayBe_4 13 rfl rfl)
theorem dX0_mayBe_109 : decode cX0_mayBe 109 = .ok (.iconst 0, 1) := dk_3 (dk_at dksX0_mayBe_4 16 rfl rfl)
theorem dX0_mayBe_110 : decode cX0_mayBe 110 = .ok (.ireturn, 1) := dk_172 (dk_at dksX0_mayBe_4 17 rfl rfl)
def dkwX0_chosen_1 : List UInt8 := [27, 100, 21, 4, 96, 133, 105, 21, 4, 133, 109, 65, 132, 4, 1, 167, 255, 233, 32, 173]
abbrev dktX0_chosen_1 : List UInt8 := dkwX0_chosen_1 ++ []
def dkwX0_chosen_0 : List UInt8 := [27, 155, 0, 8, 27, 26, 164, 0, 5, 9, 173, 10, 65, 4, 54, 4, 21, 4, 27, 163, 0, 23, 32, 26]
abbrev dktX0_chosen_0 : List UInt8 := dkwX0_chosen_0 ++ dktX0_chosen_1
theorem dksX0_chosen_0 : cX0_chosen.data.toList.drop 0 = dktX0_chosen_0 := by decide +kernel
theorem dksX0_chosen_1 : cX0_chosen.data.toList.drop 24 = dktX0_chosen_1 := dk_seg dksX0_chosen_0 24 rfl rfl
theorem dX0_chosen_0 : decode cX0_chosen 0 = .ok (.iload_n 1, 1) := dk_27 (dk_at dksX0_chosen_0 0 rfl rfl)
theorem dX0_chosen_1 : decode cX0_chosen 1 = .ok (.ifCond .lt 8, 3) := dk_155 0 8 (dk_at dksX0_chosen_0 1 rfl rfl)
theorem dX0_chosen_4 : decode cX0_chosen 4 = .ok (.iload_n 1, 1) := dk_27 (dk_at dksX0_chosen_0 4 rfl rfl)
theorem dX0_chosen_5 : decode cX0_chosen 5 = .ok (.iload_n 0, 1) := dk_26 (dk_at dksX0_chosen_0 5 rfl rfl)
theorem dX0_chosen_6 : decode cX0_chosen 6 = .ok (.if_icmp .le 5, 3) := dk_164 0 5 (dk_at dksX0_chosen_0 6 rfl rfl)
theorem dX0_chosen_9 : decode cX0_chosen 9 = .ok (.lconst 0, 1) := dk_9 (dk_at dksX0_chosen_0 9 rfl rfl)
theorem dX0_chosen_10 : decode cX0_chosen 10 = .ok (.lreturn, 1) := dk_173 (dk_at dksX0_chosen_0 10 rfl rfl)
theorem dX0_chosen_11 : decode cX0_chosen 11 = .ok (.lconst 1, 1) := dk_10 (dk_at dksX0_chosen_0 11 rfl rfl)
theorem dX0_chosen_12 : decode cX0_chosen 12 = .ok (.lstore_n 2, 1) := dk_65 (dk_at dksX0_chosen_0 12 rfl rfl)
theorem dX0_chosen_13 : decode cX0_chosen 13 = .ok (.iconst 1, 1) := dk_4 (dk_at dksX0_chosen_0 13 rfl rfl)
theorem dX0_chosen_14 : decode cX0_chosen 14 = .ok (.istore 4, 2) := dk_54 4 (dk_at dksX0_chosen_0 14 rfl rfl)
theorem dX0_chosen_16 : decode cX0_chosen 16 = .ok (.iload 4, 2) := dk_21 4 (dk_at dksX0_chosen_0 16 rfl rfl)
theorem dX0_chosen_18 : decode cX0_chosen 18 = .ok (.iload_n 1, 1) := dk_27 (dk_at dksX0_chosen_0 18 rfl rfl)
theorem dX0_chosen_19 : decode cX0_chosen 19 = .ok (.if_icmp .gt 23, 3) := dk_163 0 23 (dk_at dksX0_chosen_0 19 rfl rfl)
theorem dX0_chosen_22 : decode cX0_chosen 22 = .ok (.lload_n 2, 1) := dk_32 (dk_at dksX0_chosen_0 22 rfl rfl)
theorem dX0_chosen_23 : decode cX0_chosen 23 = .ok (.iload_n 0, 1) := dk_26 (dk_at dksX0_chosen_0 23 rfl rfl)
theorem dX0_chosen_24 : decode cX0_chosen 24 = .ok (.iload_n 1, 1) := dk_27 (dk_at dksX0_chosen_1 0 rfl rfl)
theorem dX0_chosen_25 : decode cX0_chosen 25 = .ok (.isub, 1) := dk_100 (dk_at dksX0_chosen_1 1 rfl rfl)
theorem dX0_chosen_26 : decode cX0_chosen 26 = .ok (.iload 4, 2) := dk_21 4 (dk_at dksX0_chosen_1 2 rfl rfl)
theorem dX0_chosen_28 : decode cX0_chosen 28 = .ok (.iadd, 1) := dk_96 (dk_at dksX0_chosen_1 4 rfl rfl)
theorem dX0_chosen_29 : decode cX0_chosen 29 = .ok (.i2l, 1) := dk_133 (dk_at dksX0_chosen_1 5 rfl rfl)
theorem dX0_chosen_30 : decode cX0_chosen 30 = .ok (.lmul, 1) := dk_105 (dk_at dksX0_chosen_1 6 rfl rfl)
theorem dX0_chosen_31 : decode cX0_chosen 31 = .ok (.iload 4, 2) := dk_21 4 (dk_at dksX0_chosen_1 7 rfl rfl)
theorem dX0_chosen_33 : decode cX0_chosen 33 = .ok (.i2l, 1) := dk_133 (dk_at dksX0_chosen_1 9 rfl rfl)
theorem dX0_chosen_34 : decode cX0_chosen 34 = .ok (.ldiv, 1) := dk_109 (dk_at dksX0_chosen_1 10 rfl rfl)
theorem dX0_chosen_35 : decode cX0_chosen 35 = .ok (.lstore_n 2, 1) := dk_65 (dk_at dksX0_chosen_1 11 rfl rfl)
theorem dX0_chosen_36 : decode cX0_chosen 36 = .ok (.iinc 4 1, 3) := dk_132 4 1 (dk_at dksX0_chosen_1 12 rfl rfl)
theorem dX0_chosen_39 : decode cX0_chosen 39 = .ok (.goto (-23), 3) := dk_167 255 233 (dk_at dksX0_chosen_1 15 rfl rfl)
theorem dX0_chosen_42 : decode cX0_chosen 42 = .ok (.lload_n 2, 1) := dk_32 (dk_at dksX0_chosen_1 18 rfl rfl)
theorem dX0_chosen_43 : decode cX0_chosen 43 = .ok (.lreturn, 1) := dk_173 (dk_at dksX0_chosen_1 19 rfl rfl)
def dkwX0_seal_2 : List UInt8 := [180, 0, 10, 180, 2, 37, 27, 42, 180, 2, 24, 80, 42, 42, 180, 2, 27, 182, 0, 123, 172]
abbrev dktX0_seal_2 : List UInt8 := dkwX0_seal_2 ++ []
def dkwX0_seal_1 : List UInt8 := [180, 1, 156, 27, 42, 180, 2, 27, 79, 42, 180, 0, 10, 180, 2, 35, 27, 42, 180, 2, 20, 80, 42]
abbrev dktX0_seal_1 : List UInt8 := dkwX0_seal_1 ++ dktX0_seal_2
def dkwX0_seal_0 : List UInt8 := [42, 27, 182, 1, 160, 154, 0, 10, 42, 16, 254, 182, 0, 131, 172, 42, 27, 182, 2, 33, 42, 180, 0, 10]
abbrev dktX0_seal_0 : List UInt8 := dkwX0_seal_0 ++ dktX0_seal_1
theorem dksX0_seal_0 : cX0_seal.data.toList.drop 0 = dktX0_seal_0 := by decide +kernel
theorem dksX0_seal_1 : cX0_seal.data.toList.drop 24 = dktX0_seal_1 := dk_seg dksX0_seal_0 24 rfl rfl
theorem dksX0_seal_2 : cX0_seal.data.toList.drop 47 = dktX0_seal_2 := dk_seg dksX0_seal_1 23 rfl rfl
theorem dX0_seal_0 : decode cX0_seal 0 = .ok (.aload_n 0, 1) := dk_42 (dk_at dksX0_seal_0 0 rfl rfl)
theorem dX0_seal_1 : decode cX0_seal 1 = .ok (.iload_n 1, 1) := dk_27 (dk_at dksX0_seal_0 1 rfl rfl)
theorem dX0_seal_2 : decode cX0_seal 2 = .ok (.invokevirtual 416, 3) := dk_182 1 160 (dk_at dksX0_seal_0 2 rfl rfl)
theorem dX0_seal_5 : decode cX0_seal 5 = .ok (.ifCond .ne 10, 3) := dk_154 0 10 (dk_at dksX0_seal_0 5 rfl rfl)
theorem dX0_seal_8 : decode cX0_seal 8 = .ok (.aload_n 0, 1) := dk_42 (dk_at dksX0_seal_0 8 rfl rfl)
theorem dX0_seal_9 : decode cX0_seal 9 = .ok (.bipush (-2), 2) := dk_16 254 (dk_at dksX0_seal_0 9 rfl rfl)
theorem dX0_seal_11 : decode cX0_seal 11 = .ok (.invokevirtual 131, 3) := dk_182 0 131 (dk_at dksX0_seal_0 11 rfl rfl)
theorem dX0_seal_14 : decode cX0_seal 14 = .ok (.ireturn, 1) := dk_172 (dk_at dksX0_seal_0 14 rfl rfl)
theorem dX0_seal_15 : decode cX0_seal 15 = .ok (.aload_n 0, 1) := dk_42 (dk_at dksX0_seal_0 15 rfl rfl)
theorem dX0_seal_16 : decode cX0_seal 16 = .ok (.iload_n 1, 1) := dk_27 (dk_at dksX0_seal_0 16 rfl rfl)
theorem dX0_seal_17 : decode cX0_seal 17 = .ok (.invokevirtual 545, 3) := dk_182 2 33 (dk_at dksX0_seal_0 17 rfl rfl)
theorem dX0_seal_20 : decode cX0_seal 20 = .ok (.aload_n 0, 1) := dk_42 (dk_at dksX0_seal_0 20 rfl rfl)
theorem dX0_seal_21 : decode cX0_seal 21 = .ok (.getfield 10, 3) := dk_180 0 10 (dk_at dksX0_seal_0 21 rfl rfl)
theorem dX0_seal_24 : decode cX0_seal 24 = .ok (.getfield 412, 3) := dk_180 1 156 (dk_at dksX0_seal_1 0 rfl rfl)
theorem dX0_seal_27 : decode cX0_seal 27 = .ok (.iload_n 1, 1) := dk_27 (dk_at dksX0_seal_1 3 rfl rfl)
theorem dX0_seal_28 : decode cX0_seal 28 = .ok (.aload_n 0, 1) := dk_42 (dk_at dksX0_seal_1 4 rfl rfl)
theorem dX0_seal_29 : decode cX0_seal 29 = .ok (.getfield 539, 3) := dk_180 2 27 (dk_at dksX0_seal_1 5 rfl rfl)
theorem dX0_seal_32 : decode cX0_seal 32 = .ok (.iastore, 1) := dk_79 (dk_at dksX0_seal_1 8 rfl rfl)
theorem dX0_seal_33 : decode cX0_seal 33 = .ok (.aload_n 0, 1) := dk_42 (dk_at dksX0_seal_1 9 rfl rfl)
theorem dX0_seal_34 : decode cX0_seal 34 = .ok (.getfield 10, 3) := dk_180 0 10 (dk_at dksX0_seal_1 10 rfl rfl)
theorem dX0_seal_37 : decode cX0_seal 37 = .ok (.getfield 547, 3) := dk_180 2 35 (dk_at dksX0_seal_1 13 rfl rfl)
theorem dX0_seal_40 : decode cX0_seal 40 = .ok (.iload_n 1, 1) := dk_27 (dk_at dksX0_seal_1 16 rfl rfl)
theorem dX0_seal_41 : decode cX0_seal 41 = .ok (.aload_n 0, 1) := dk_42 (dk_at dksX0_seal_1 17 rfl rfl)
theorem dX0_seal_42 : decode cX0_seal 42 = .ok (.getfield 532, 3) := dk_180 2 20 (dk_at dksX0_seal_1 18 rfl rfl)
theorem dX0_seal_45 : decode cX0_seal 45 = .ok (.lastore, 1) := dk_80 (dk_at dksX0_seal_1 21 rfl rfl)
theorem dX0_seal_46 : decode cX0_seal 46 = .ok (.aload_n 0, 1) := dk_42 (dk_at dksX0_seal_1 22 rfl rfl)
theorem dX0_seal_47 : decode cX0_seal 47 = .ok (.getfield 10, 3) := dk_180 0 10 (dk_at dksX0_seal_2 0 rfl rfl)
theorem dX0_seal_50 : decode cX0_seal 50 = .ok (.getfield 549, 3) := dk_180 2 37 (dk_at dksX0_seal_2 3 rfl rfl)
theorem dX0_seal_53 : decode cX0_seal 53 = .ok (.iload_n 1, 1) := dk_27 (dk_at dksX0_seal_2 6 rfl rfl)
theorem dX0_seal_54 : decode cX0_seal 54 = .ok (.aload_n 0, 1) := dk_42 (dk_at dksX0_seal_2 7 rfl rfl)
theorem dX0_seal_55 : decode cX0_seal 55 = .ok (.getfield 536, 3) := dk_180 2 24 (dk_at dksX0_seal_2 8 rfl rfl)
theorem dX0_seal_58 : decode cX0_seal 58 = .ok (.lastore, 1) := dk_80 (dk_at dksX0_seal_2 11 rfl rfl)
theorem dX0_seal_59 : decode cX0_seal 59 = .ok (.aload_n 0, 1) := dk_42 (dk_at dksX0_seal_2 12 rfl rfl)
theorem dX0_seal_60 : decode cX0_seal 60 = .ok (.aload_n 0, 1) := dk_42 (dk_at dksX0_seal_2 13 rfl rfl)
theorem dX0_seal_61 : decode cX0_seal 61 = .ok (.getfield 539, 3) := dk_180 2 27 (dk_at dksX0_seal_2 14 rfl rfl)
theorem dX0_seal_64 : decode cX0_seal 64 = .ok (.invokevirtual 123, 3) := dk_182 0 123 (dk_at dksX0_seal_2 17 rfl rfl)
theorem dX0_seal_67 : decode cX0_seal 67 = .ok (.ireturn, 1) := dk_172 (dk_at dksX0_seal_2 20 rfl rfl)
def dkwX0_adds_2_4 : List UInt8 := [97, 181, 2, 24, 132, 2, 1, 167, 255, 173, 177]
abbrev dktX0_adds_2_4 : List UInt8 := dkwX0_adds_2_4 ++ []
def dkwX0_adds_2_3 : List UInt8 := [181, 2, 20, 42, 89, 180, 2, 24, 42, 180, 2, 27, 133, 42, 180, 0, 10, 180, 1, 198, 28, 46, 133, 105]
abbrev dktX0_adds_2_3 : List UInt8 := dkwX0_adds_2_3 ++ dktX0_adds_2_4
def dkwX0_adds_2_2 : List UInt8 := [180, 2, 27, 4, 96, 181, 2, 27, 42, 89, 180, 2, 20, 42, 180, 0, 10, 180, 1, 198, 28, 46, 133, 97]
abbrev dktX0_adds_2_2 : List UInt8 := dkwX0_adds_2_2 ++ dktX0_adds_2_3
def dkwX0_adds_2_1 : List UInt8 := [180, 1, 195, 182, 0, 148, 162, 0, 75, 42, 28, 27, 182, 2, 30, 154, 0, 6, 167, 0, 57, 42, 89]
abbrev dktX0_adds_2_1 : List UInt8 := dkwX0_adds_2_1 ++ dktX0_adds_2_2
def dkwX0_adds_2_0 : List UInt8 := [42, 9, 181, 2, 20, 42, 9, 181, 2, 24, 42, 3, 181, 2, 27, 3, 61, 28, 42, 180, 0, 10]
abbrev dktX0_adds_2_0 : List UInt8 := dkwX0_adds_2_0 ++ dktX0_adds_2_1
theorem dksX0_adds_2_0 : cX0_adds_2.data.toList.drop 0 = dktX0_adds_2_0 := by decide +kernel
theorem dksX0_adds_2_1 : cX0_adds_2.data.toList.drop 22 = dktX0_adds_2_1 := dk_seg dksX0_adds_2_0 22 rfl rfl
theorem dksX0_adds_2_2 : cX0_adds_2.data.toList.drop 45 = dktX0_adds_2_2 := dk_seg dksX0_adds_2_1 23 rfl rfl
theorem dksX0_adds_2_3 : cX0_adds_2.data.toList.drop 69 = dktX0_adds_2_3 := dk_seg dksX0_adds_2_2 24 rfl rfl
theorem dksX0_adds_2_4 : cX0_adds_2.data.toList.drop 93 = dktX0_adds_2_4 := dk_seg dksX0_adds_2_3 24 rfl rfl
theorem dX0_adds_2_0 : decode cX0_adds_2 0 = .ok (.aload_n 0, 1) := dk_42 (dk_at dksX0_adds_2_0 0 rfl rfl)
theorem dX0_adds_2_1 : decode cX0_adds_2 1 = .ok (.lconst 0, 1) := dk_9 (dk_at dksX0_adds_2_0 1 rfl rfl)
theorem dX0_adds_2_2 : decode cX0_adds_2 2 = .ok (.putfield 532, 3) := dk_181 2 20 (dk_at dksX0_adds_2_0 2 rfl rfl)
theorem dX0_adds_2_5 : decode cX0_adds_2 5 = .ok (.aload_n 0, 1) := dk_42 (dk_at dksX0_adds_2_0 5 rfl rfl)
theorem dX0_adds_2_6 : decode cX0_adds_2 6 = .ok (.lconst 0, 1) := dk_9 (dk_at dksX0_adds_2_0 6 rfl rfl)
theorem dX0_adds_2_7 : decode cX0_adds_2 7 = .ok (.putfield 536, 3) := dk_181 2 24 (dk_at dksX0_adds_2_0 7 rfl rfl)
theorem dX0_adds_2_10 : decode cX0_adds_2 10 = .ok (.aload_n 0, 1) := dk_42 (dk_at dksX0_adds_2_0 10 rfl rfl)
theorem dX0_adds_2_11 : decode cX0_adds_2 11 = .ok (.iconst 0, 1) := dk_3 (dk_at dksX0_adds_2_0 11 rfl rfl)
theorem dX0_adds_2_12 : decode cX0_adds_2 12 = .ok (.putfield 539, 3) := dk_181 2 27 (dk_at dksX0_adds_2_0 12 rfl rfl)
theorem dX0_adds_2_15 : decode cX0_adds_2 15 = .ok (.iconst 0, 1) := dk_3 (dk_at dksX0_adds_2_0 15 rfl rfl)
theorem dX0_adds_2_16 : decode cX0_adds_2 16 = .ok (.istore_n 2, 1) := dk_61 (dk_at dksX0_adds_2_0 16 rfl rfl)
theorem dX0_adds_2_17 : decode cX0_adds_2 17 = .ok (.iload_n 2, 1) := dk_28 (dk_at dksX0_adds_2_0 17 rfl rfl)
theorem dX0_adds_2_18 : decode cX0_adds_2 18 = .ok (.aload_n 0, 1) := dk_42 (dk_at dksX0_adds_2_0 18 rfl rfl)
theorem dX0_adds_2_19 : decode cX0_adds_2 19 = .ok (.getfield 10, 3) := dk_180 0 10 (dk_at dksX0_adds_2_0 19 rfl rfl)
theorem dX0_adds_2_22 : decode cX0_adds_2 22 = .ok (.getfield 451, 3) := dk_180 1 195 (dk_at dksX0_adds_2_1 0 rfl rfl)
theorem dX0_adds_2_25 : decode cX0_adds_2 25 = .ok (.invokevirtual 148, 3) := dk_182 0 148 (dk_at dksX0_adds_2_1 3 rfl rfl)
theorem dX0_adds_2_28 : decode cX0_adds_2 28 = .ok (.if_icmp .ge 75, 3) := dk_162 0 75 (dk_at dksX0_adds_2_1 6 rfl rfl)
theorem dX0_adds_2_31 : decode cX0_adds_2 31 = .ok (.aload_n 0, 1) := dk_42 (dk_at dksX0_adds_2_1 9 rfl rfl)
theorem dX0_adds_2_32 : decode cX0_adds_2 32 = .ok (.iload_n 2, 1) := dk_28 (dk_at dksX0_adds_2_1 10 rfl rfl)
theorem dX0_adds_2_33 : decode cX0_adds_2 33 = .ok (.iload_n 1, 1) := dk_27 (dk_at dksX0_adds_2_1 11 rfl rfl)
theorem dX0_adds_2_34 : decode cX0_adds_2 34 = .ok (.invokevirtual 542, 3) := dk_182 2 30 (dk_at dksX0_adds_2_1 12 rfl rfl)
theorem dX0_adds_2_37 : decode cX0_adds_2 37 = .ok (.ifCond .ne 6, 3) := dk_154 0 6 (dk_at dksX0_adds_2_1 15 rfl rfl)
theorem dX0_adds_2_40 : decode cX0_adds_2 40 = .ok (.goto 57, 3) := dk_167 0 57 (dk_at dksX0_adds_2_1 18 rfl rfl)
theorem dX0_adds_2_43 : decode cX0_adds_2 43 = .ok (.aload_n 0, 1) := dk_42 (dk_at dksX0_adds_2_1 21 rfl rfl)
theorem dX0_adds_2_44 : decode cX0_adds_2 44 = .ok (.dup, 1) := dk_89 (dk_at dksX0_adds_2_1 22 rfl rfl)
theorem dX0_adds_2_45 : decode cX0_adds_2 45 = .ok (.getfield 539, 3) := dk_180 2 27 (dk_at dksX0_adds_2_2 0 rfl rfl)
theorem dX0_adds_2_48 : decode cX0_adds_2 48 = .ok (.iconst 1, 1) := dk_4 (dk_at dksX0_adds_2_2 3 rfl rfl)
theorem dX0_adds_2_49 : decode cX0_adds_2 49 = .ok (.iadd, 1) := dk_96 (dk_at dksX0_adds_2_2 4 rfl rfl)
theorem dX0_adds_2_50 : decode cX0_adds_2 50 = .ok (.putfield 539, 3) := dk_181 2 27 (dk_at dksX0_adds_2_2 5 rfl rfl)
theorem dX0_adds_2_53 : decode cX0_adds_2 53 = .ok (.aload_n 0, 1) := dk_42 (dk_at dksX0_adds_2_2 8 rfl rfl)
theorem dX0_adds_2_54 : decode cX0_adds_2 54 = .ok (.dup, 1) := dk_89 (dk_at dksX0_adds_2_2 9 rfl rfl)
theorem dX0_adds_2_55 : decode cX0_adds_2 55 = .ok (.getfield 532, 3) := dk_180 2 20 (dk_at dksX0_adds_2_2 10 rfl rfl)
theorem dX0_adds_2_58 : decode cX0_adds_2 58 = .ok (.aload_n 0, 1) := dk_42 (dk_at dksX0_adds_2_2 13 rfl rfl)
theorem dX0_adds_2_59 : decode cX0_adds_2 59 = .ok (.getfield 10, 3) := dk_180 0 10 (dk_at dksX0_adds_2_2 14 rfl rfl)
theorem dX0_adds_2_62 : decode cX0_adds_2 62 = .ok (.getfield 454, 3) := dk_180 1 198 (dk_at dksX0_adds_2_2 17 rfl rfl)
theorem dX0_adds_2_65 : decode cX0_adds_2 65 = .ok (.iload_n 2, 1) := dk_28 (dk_at dksX0_adds_2_2 20 rfl rfl)
theorem dX0_adds_2_66 : decode cX0_adds_2 66 = .ok (.iaload, 1) := dk_46 (dk_at dksX0_adds_2_2 21 rfl rfl)
theorem dX0_adds_2_67 : decode cX0_adds_2 67 = .ok (.i2l, 1) := dk_133 (dk_at dksX0_adds_2_2 22 rfl rfl)
theorem dX0_adds_2_68 : decode cX0_adds_2 68 = .ok (.ladd, 1) := dk_97 (dk_at dksX0_adds_2_2 23 rfl rfl)
theorem dX0_adds_2_69 : decode cX0_adds_2 69 = .ok (.putfield 532, 3) := dk_181 2 20 (dk_at dksX0_adds_2_3 0 rfl rfl)
theorem dX0_adds_2_72 : decode cX0_adds_2 72 = .ok (.aload_n 0, 1) := dk_42 (dk_at dksX0_adds_2_3 3 rfl rfl)
theorem dX0_adds_2_73 : decode cX0_adds_2 73 = .ok (.dup, 1) := dk_89 (dk_at dksX0_adds_2_3 4 rfl rfl)
theorem dX0_adds_2_74 : decode cX0_adds_2 74 = .ok (.getfield 536, 3) := dk_180 2 24 (dk_at dksX0_adds_2_3 5 rfl rfl)
theorem dX0_adds_2_77 : decode cX0_adds_2 77 = .ok (.aload_n 0, 1) := dk_42 (dk_at dksX0_adds_2_3 8 rfl rfl)
theorem dX0_adds_2_78 : decode cX0_adds_2 78 = .ok (.getfield 539, 3) := dk_180 2 27 (dk_at dksX0_adds_2_3 9 rfl rfl)
theorem dX0_adds_2_81 : decode cX0_adds_2 81 = .ok (.i2l, 1) := dk_133 (dk_at dksX0_adds_2_3 12 rfl rfl)
theorem dX0_adds_2_82 : decode cX0_adds_2 82 = .ok (.aload_n 0, 1) := dk_42 (dk_at dksX0_adds_2_3 13 rfl rfl)
theorem dX0_adds_2_83 : decode cX0_adds_2 83 = .ok (.getfield 10, 3) := dk_180 0 10 (dk_at dksX0_adds_2_3 14 rfl rfl)
theorem dX0_adds_2_86 : decode cX0_adds_2 86 = .ok (.getfield 454, 3) := dk_180 1 198 (dk_at dksX0_adds_2_3 17 rfl rfl)
theorem dX0_adds_2_89 : decode cX0_adds_2 89 = .ok (.iload_n 2, 1) := dk_28 (dk_at dksX0_adds_2_3 20 rfl rfl)
theorem dX0_adds_2_90 : decode cX0_adds_2 90 = .ok (.iaload, 1) := dk_46 (dk_at dksX0_adds_2_3 21 rfl rfl)
theorem dX0_adds_2_91 : decode cX0_adds_2 91 = .ok (.i2l, 1) := dk_133 (dk_at dksX0_adds_2_3 22 rfl rfl)
theorem dX0_adds_2_92 : decode cX0_adds_2 92 = .ok (.lmul, 1) := dk_105 (dk_at dksX0_adds_2_3 23 rfl rfl)
theorem dX0_adds_2_93 : decode cX0_adds_2 93 = .ok (.ladd, 1) := dk_97 (dk_at dksX0_adds_2_4 0 rfl rfl)
theorem dX0_adds_2_94 : decode cX0_adds_2 94 = .ok (.putfield 536, 3) := dk_181 2 24 (dk_at dksX0_adds_2_4 1 rfl rfl)
theorem dX0_adds_2_97 : decode cX0_adds_2 97 = .ok (.iinc 2 1, 3) := dk_132 2 1 (dk_at dksX0_adds_2_4 4 rfl rfl)
theorem dX0_adds_2_100 : decode cX0_adds_2 100 = .ok (.goto (-83), 3) := dk_167 255 173 (dk_at dksX0_adds_2_4 7 rfl rfl)
theorem dX0_adds_2_103 : decode cX0_adds_2 103 = .ok (.return_, 1) := dk_177 (dk_at dksX0_adds_2_4 10 rfl rfl)
def dkwX0_isOf_1 : List UInt8 := [46, 28, 160, 0, 7, 4, 167, 0, 4, 3, 172]
abbrev dktX0_isOf_1 : List UInt8 := dkwX0_isOf_1 ++ []
def dkwX0_isOf_0 : List UInt8 := [42, 180, 0, 10, 180, 1, 163, 42, 180, 0, 10, 180, 1, 195, 27, 182, 0, 232, 192, 1, 23, 180, 1, 26]
abbrev dktX0_isOf_0 : List UInt8 := dkwX0_isOf_0 ++ dktX0_isOf_1
theorem dksX0_isOf_0 : cX0_isOf.data.toList.drop 0 = dktX0_isOf_0 := by decide +kernel
theorem dksX0_isOf_1 : cX0_isOf.data.toList.drop 24 = dktX0_isOf_1 := dk_seg dksX0_isOf_0 24 rfl rfl
theorem dX0_isOf_0 : decode cX0_isOf 0 = .ok (.aload_n 0, 1) := dk_42 (dk_at dksX0_isOf_0 0 rfl rfl)
theorem dX0_isOf_1 : decode cX0_isOf 1 = .ok (.getfield 10, 3) := dk_180 0 10 (dk_at dksX0_isOf_0 1 rfl rfl)
theorem dX0_isOf_4 : decode cX0_isOf 4 = .ok (.getfield 419, 3) := dk_180 1 163 (dk_at dksX0_isOf_0 4 rfl rfl)
theorem dX0_isOf_7 : decode cX0_isOf 7 = .ok (.aload_n 0, 1) := dk_42 (dk_at dksX0_isOf_0 7 rfl rfl)
theorem dX0_isOf_8 : decode cX0_isOf 8 = .ok (.getfield 10, 3) := dk_180 0 10 (dk_at dksX0_isOf_0 8 rfl rfl)
theorem dX0_isOf_11 : decode cX0_isOf 11 = .ok (.getfield 451, 3) := dk_180 1 195 (dk_at dksX0_isOf_0 11 rfl rfl)
theorem dX0_isOf_14 : decode cX0_isOf 14 = .ok (.iload_n 1, 1) := dk_27 (dk_at dksX0_isOf_0 14 rfl rfl)
theorem dX0_isOf_15 : decode cX0_isOf 15 = .ok (.invokevirtual 232, 3) := dk_182 0 232 (dk_at dksX0_isOf_0 15 rfl rfl)
theorem dX0_isOf_18 : decode cX0_isOf 18 = .ok (.checkcast 279, 3) := dk_192 1 23 (dk_at dksX0_isOf_0 18 rfl rfl)
theorem dX0_isOf_21 : decode cX0_isOf 21 = .ok (.getfield 282, 3) := dk_180 1 26 (dk_at dksX0_isOf_0 21 rfl rfl)
theorem dX0_isOf_24 : decode cX0_isOf 24 = .ok (.iaload, 1) := dk_46 (dk_at dksX0_isOf_1 0 rfl rfl)
theorem dX0_isOf_25 : decode cX0_isOf 25 = .ok (.iload_n 2, 1) := dk_28 (dk_at dksX0_isOf_1 1 rfl rfl)
theorem dX0_isOf_26 : decode cX0_isOf 26 = .ok (.if_icmp .ne 7, 3) := dk_160 0 7 (dk_at dksX0_isOf_1 2 rfl rfl)
theorem dX0_isOf_29 : decode cX0_isOf 29 = .ok (.iconst 1, 1) := dk_4 (dk_at dksX0_isOf_1 5 rfl rfl)
theorem dX0_isOf_30 : decode cX0_isOf 30 = .ok (.goto 4, 3) := dk_167 0 4 (dk_at dksX0_isOf_1 6 rfl rfl)
theorem dX0_isOf_33 : decode cX0_isOf 33 = .ok (.iconst 0, 1) := dk_3 (dk_at dksX0_isOf_1 9 rfl rfl)
theorem dX0_isOf_34 : decode cX0_isOf 34 = .ok (.ireturn, 1) := dk_172 (dk_at dksX0_isOf_1 10 rfl rfl)
def dkwX0_alter_2 : List UInt8 := [180, 1, 198, 27, 92, 46, 28, 130, 79, 42, 42, 180, 0, 10, 180, 1, 198, 27, 46, 182, 0, 138, 172]
abbrev dktX0_alter_2 : List UInt8 := dkwX0_alter_2 ++ []
def dkwX0_alter_1 : List UInt8 := [180, 0, 10, 180, 1, 195, 182, 0, 148, 161, 0, 10, 42, 16, 254, 182, 0, 131, 172, 42, 180, 0, 10]
abbrev dktX0_alter_1 : List UInt8 := dkwX0_alter_1 ++ dktX0_alter_2
def dkwX0_alter_0 : List UInt8 := [28, 4, 17, 0, 255, 184, 0, 127, 154, 0, 9, 42, 2, 182, 0, 131, 172, 27, 155, 0, 17, 27, 42]
abbrev dktX0_alter_0 : List UInt8 := dkwX0_alter_0 ++ dktX0_alter_1
theorem dksX0_alter_0 : cX0_alter.data.toList.drop 0 = dktX0_alter_0 := by decide +kernel
theorem dksX0_alter_1 : cX0_alter.data.toList.drop 23 = dktX0_alter_1 := dk_seg dksX0_alter_0 23 rfl rfl
theorem dksX0_alter_2 : cX0_alter.data.toList.drop 46 = dktX0_alter_2 := dk_seg dksX0_alter_1 23 rfl rfl
theorem dX0_alter_0 : decode cX0_alter 0 = .ok (.iload_n 2, 1) := dk_28 (dk_at dksX0_alter_0 0 rfl rfl)
theorem dX0_alter_1 : decode cX0_alter 1 = .ok (.iconst 1, 1) := dk_4 (dk_at dksX0_alter_0 1 rfl rfl)
theorem dX0_alter_2 : decode cX0_alter 2 = .ok (.sipush 255, 3) := dk_17 0 255 (dk_at dksX0_alter_0 2 rfl rfl)
theorem dX0_alter_5 : decode cX0_alter 5 = .ok (.invokestatic 127, 3) := dk_184 0 127 (dk_at dksX0_alter_0 5 rfl rfl)
theorem dX0_alter_8 : decode cX0_alter 8 = .ok (.ifCond .ne 9, 3) := dk_154 0 9 (dk_at dksX0_alter_0 8 rfl rfl)
theorem dX0_alter_11 : decode cX0_alter 11 = .ok (.aload_n 0, 1) := dk_42 (dk_at dksX0_alter_0 11 rfl rfl)
theorem dX0_alter_12 : decode cX0_alter 12 = .ok (.iconst (-1), 1) := dk_2 (dk_at dksX0_alter_0 12 rfl rfl)
theorem dX0_alter_13 : decode cX0_alter 13 = .ok (.invokevirtual 131, 3) := dk_182 0 131 (dk_at dksX0_alter_0 13 rfl rfl)
theorem dX0_alter_16 : decode cX0_alter 16 = .ok (.ireturn, 1) := dk_172 (dk_at dksX0_alter_0 16 rfl rfl)
theorem dX0_alter_17 : decode cX0_alter 17 = .ok (.iload_n 1, 1) := dk_27 (dk_at dksX0_alter_0 17 rfl rfl)
theorem dX0_alter_18 : decode cX0_alter 18 = .ok (.ifCond .lt 17, 3) := dk_155 0 17 (dk_at dksX0_alter_0 18 rfl rfl)
theorem dX0_alter_21 : decode cX0_alter 21 = .ok (.iload_n 1, 1) := dk_27 (dk_at dksX0_alter_0 21 rfl rfl)
theorem dX0_alter_22 : decode cX0_alter 22 = .ok (.aload_n 0, 1) := dk_42 (dk_at dksX0_alter_0 22 rfl rfl)
theorem dX0_alter_23 : decode cX0_alter 23 = .ok (.getfield 10, 3) := dk_180 0 10 (dk_at dksX0_alter_1 0 rfl rfl)
theorem dX0_alter_26 : decode cX0_alter 26 = .ok (.getfield 451, 3) := dk_180 1 195 (dk_at dksX0_alter_1 3 rfl rfl)
theorem dX0_alter_29 : decode cX0_alter 29 = .ok (.invokevirtual 148, 3) := dk_182 0 148 (dk_at dksX0_alter_1 6 rfl rfl)
theorem dX0_alter_32 : decode cX0_alter 32 = .ok (.if_icmp .lt 10, 3) := dk_161 0 10 (dk_at dksX0_alter_1 9 rfl rfl)
theorem dX0_alter_35 : decode cX0_alter 35 = .ok (.aload_n 0, 1) := dk_42 (dk_at dksX0_alter_1 12 rfl rfl)
theorem dX0_alter_36 : decode cX0_alter 36 = .ok (.bipush (-2), 2) := dk_16 254 (dk_at dksX0_alter_1 13 rfl rfl)
theorem dX0_alter_38 : decode cX0_alter 38 = .ok (.invokevirtual 131, 3) := dk_182 0 131 (dk_at dksX0_alter_1 15 rfl rfl)
theorem dX0_alter_41 : decode cX0_alter 41 = .ok (.ireturn, 1) := dk_172 (dk_at dksX0_alter_1 18 rfl rfl)
theorem dX0_alter_42 : decode cX0_alter 42 = .ok (.aload_n 0, 1) := dk_42 (dk_at dksX0_alter_1 19 rfl rfl)
theorem dX0_alter_43 : decode cX0_alter 43 = .ok (.getfield 10, 3) := dk_180 0 10 (dk_at dksX0_alter_1 20 rfl rfl)
theorem dX0_alter_46 : decode cX0_alter 46 = .ok (.getfield 454, 3) := dk_180 1 198 (dk_at dksX0_alter_2 0 rfl rfl)
theorem dX0_alter_49 : decode cX0_alter 49 = .ok (.iload_n 1, 1) := dk_27 (dk_at dksX0_alter_2 3 rfl rfl)
theorem dX0_alter_50 : decode cX0_alter 50 = .ok (.dup2, 1) := dk_92 (dk_at dksX0_alter_2 4 rfl rfl)
theorem dX0_alter_51 : decode cX0_alter 51 = .ok (.iaload, 1) := dk_46 (dk_at dksX0_alter_2 5 rfl rfl)
theorem dX0_alter_52 : decode cX0_alter 52 = .ok (.iload_n 2, 1) := dk_28 (dk_at dksX0_alter_2 6 rfl rfl)
theorem dX0_alter_53 : decode cX0_alter 53 = .ok (.ixor, 1) := dk_130 (dk_at dksX0_alter_2 7 rfl rfl)
theorem dX0_alter_54 : decode cX0_alter 54 = .ok (.iastore, 1) := dk_79 (dk_at dksX0_alter_2 8 rfl rfl)
theorem dX0_alter_55 : decode cX0_alter 55 = .ok (.aload_n 0, 1) := dk_42 (dk_at dksX0_alter_2 9 rfl rfl)
theorem dX0_alter_56 : decode cX0_alter 56 = .ok (.aload_n 0, 1) := dk_42 (dk_at dksX0_alter_2 10 rfl rfl)
theorem dX0_alter_57 : decode cX0_alter 57 = .ok (.getfield 10, 3) := dk_180 0 10 (dk_at dksX0_alter_2 11 rfl rfl)
theorem dX0_alter_60 : decode cX0_alter 60 = .ok (.getfield 454, 3) := dk_180 1 198 (dk_at dksX0_alter_2 14 rfl rfl)
theorem dX0_alter_63 : decode cX0_alter 63 = .ok (.iload_n 1, 1) := dk_27 (dk_at dksX0_alter_2 17 rfl rfl)
theorem dX0_alter_64 : decode cX0_alter 64 = .ok (.iaload, 1) := dk_46 (dk_at dksX0_alter_2 18 rfl rfl)
theorem dX0_alter_65 : decode cX0_alter 65 = .ok (.invokevirtual 138, 3) := dk_182 0 138 (dk_at dksX0_alter_2 19 rfl rfl)
theorem dX0_alter_68 : decode cX0_alter 68 = .ok (.ireturn, 1) := dk_172 (dk_at dksX0_alter_2 22 rfl rfl)
def dkwX0_found_6 : List UInt8 := [22, 4, 148, 154, 0, 6, 21, 7, 172, 132, 7, 1, 167, 255, 202, 16, 254, 172]
abbrev dktX0_found_6 : List UInt8 := dkwX0_found_6 ++ []
def dkwX0_found_5 : List UInt8 := [153, 0, 39, 42, 21, 7, 27, 182, 2, 30, 154, 0, 6, 167, 0, 20, 132, 6, 1, 21, 6, 133, 32, 105]
abbrev dktX0_found_5 : List UInt8 := dkwX0_found_5 ++ dktX0_found_6
def dkwX0_found_4 : List UInt8 := [54, 6, 3, 54, 7, 21, 7, 42, 180, 0, 10, 180, 1, 195, 182, 0, 148, 162, 0, 45, 32, 9, 148]
abbrev dktX0_found_4 : List UInt8 := dkwX0_found_4 ++ dktX0_found_5
def dkwX0_found_3 : List UInt8 := [180, 2, 37, 27, 47, 101, 55, 4, 32, 9, 148, 154, 0, 12, 22, 4, 9, 148, 154, 0, 5, 2, 172, 3]
abbrev dktX0_found_3 : List UInt8 := dkwX0_found_3 ++ dktX0_found_4
def dkwX0_found_2 : List UInt8 := [42, 180, 2, 20, 42, 180, 0, 10, 180, 2, 35, 27, 47, 101, 65, 42, 180, 2, 24, 42, 180, 0, 10]
abbrev dktX0_found_2 : List UInt8 := dkwX0_found_2 ++ dktX0_found_3
def dkwX0_found_1 : List UInt8 := [42, 27, 182, 2, 33, 42, 180, 2, 27, 42, 180, 0, 10, 180, 1, 156, 27, 46, 159, 0, 6, 16, 254, 172]
abbrev dktX0_found_1 : List UInt8 := dkwX0_found_1 ++ dktX0_found_2
def dkwX0_found_0 : List UInt8 := [42, 27, 182, 1, 160, 153, 0, 16, 42, 180, 0, 10, 180, 1, 156, 27, 46, 2, 160, 0, 6, 16, 253, 172]
abbrev dktX0_found_0 : List UInt8 := dkwX0_found_0 ++ dktX0_found_1
theorem dksX0_found_0 : cX0_found.data.toList.drop 0 = dktX0_found_0 := by decide +kernel
theorem dksX0_found_1 : cX0_found.data.toList.drop 24 = dktX0_found_1 := dk_seg dksX0_found_0 24 rfl rfl
theorem dksX0_found_2 : cX0_found.data.toList.drop 48 = dktX0_found_2 := dk_seg dksX0_found_1 24 rfl rfl
theorem dksX0_found_3 : cX0_found.data.toList.drop 71 = dktX0_found_3 := dk_seg dksX0_found_2 23 rfl rfl
theorem dksX0_found_4 : cX0_found.data.toList.drop 95 = dktX0_found_4 := dk_seg dksX0_found_3 24 rfl rfl
theorem dksX0_found_5 : cX0_found.data.toList.drop 118 = dktX0_found_5 := dk_seg dksX0_found_4 23 rfl rfl
theorem dksX0_found_6 : cX0_found.data.toList.drop 142 = dktX0_found_6 := dk_seg dksX0_found_5 24 rfl rfl
theorem dX0_found_0 : decode cX0_found 0 = .ok (.aload_n 0, 1) := dk_42 (dk_at dksX0_found_0 0 rfl rfl)
theorem dX0_found_1 : decode cX0_found 1 = .ok (.iload_n 1, 1) := dk_27 (dk_at dksX0_found_0 1 rfl rfl)
theorem dX0_found_2 : decode cX0_found 2 = .ok (.invokevirtual 416, 3) := dk_182 1 160 (dk_at dksX0_found_0 2 rfl rfl)
theorem dX0_found_5 : decode cX0_found 5 = .ok (.ifCond .eq 16, 3) := dk_153 0 16 (dk_at dksX0_found_0 5 rfl rfl)
theorem dX0_found_8 : decode cX0_found 8 = .ok (.aload_n 0, 1) := dk_42 (dk_at dksX0_found_0 8 rfl rfl)
theorem dX0_found_9 : decode cX0_found 9 = .ok (.getfield 10, 3) := dk_180 0 10 (dk_at dksX0_found_0 9 rfl rfl)
theorem dX0_found_12 : decode cX0_found 12 = .ok (.getfield 412, 3) := dk_180 1 156 (dk_at dksX0_found_0 12 rfl rfl)
theorem dX0_found_15 : decode cX0_found 15 = .ok (.iload_n 1, 1) := dk_27 (dk_at dksX0_found_0 15 rfl rfl)
theorem dX0_found_16 : decode cX0_found 16 = .ok (.iaload, 1) := dk_46 (dk_at dksX0_found_0 16 rfl rfl)
theorem dX0_found_17 : decode cX0_found 17 = .ok (.iconst (-1), 1) := dk_2 (dk_at dksX0_found_0 17 rfl rfl)
theorem dX0_found_18 : decode cX0_found 18 = .ok (.if_icmp .ne 6, 3) := dk_160 0 6 (dk_at dksX0_found_0 18 rfl rfl)
theorem dX0_found_21 : decode cX0_found 21 = .ok (.bipush (-3), 2) := dk_16 253 (dk_at dksX0_found_0 21 rfl rfl)
theorem dX0_found_23 : decode cX0_found 23 = .ok (.ireturn, 1) := dk_172 (dk_at dksX0_found_0 23 rfl rfl)
theorem dX0_found_24 : decode cX0_found 24 = .ok (.aload_n 0, 1) := dk_42 (dk_at dksX0_found_1 0 rfl rfl)
theorem dX0_found_25 : decode cX0_found 25 = .ok (.iload_n 1, 1) := dk_27 (dk_at dksX0_found_1 1 rfl rfl)
theorem dX0_found_26 : decode cX0_found 26 = .ok (.invokevirtual 545, 3) := dk_182 2 33 (dk_at dksX0_found_1 2 rfl rfl)
theorem dX0_found_29 : decode cX0_found 29 = .ok (.aload_n 0, 1) := dk_42 (dk_at dksX0_found_1 5 rfl rfl)
theorem dX0_found_30 : decode cX0_found 30 = .ok (.getfield 539, 3) := dk_180 2 27 (dk_at dksX0_found_1 6 rfl rfl)
theorem dX0_found_33 : decode cX0_found 33 = .ok (.aload_n 0, 1) := dk_42 (dk_at dksX0_found_1 9 rfl rfl)
theorem dX0_found_34 : decode cX0_found 34 = .ok (.getfield 10, 3) := dk_180 0 10 (dk_at dksX0_found_1 10 rfl rfl)
theorem dX0_found_37 : decode cX0_found 37 = .ok (.getfield 412, 3) := dk_180 1 156 (dk_at dksX0_found_1 13 rfl rfl)
theorem dX0_found_40 : decode cX0_found 40 = .ok (.iload_n 1, 1) := dk_27 (dk_at dksX0_found_1 16 rfl rfl)
theorem dX0_found_41 : decode cX0_found 41 = .ok (.iaload, 1) := dk_46 (dk_at dksX0_found_1 17 rfl rfl)
theorem dX0_found_42 : decode cX0_found 42 = .ok (.if_icmp .eq 6, 3) := dk_159 0 6 (dk_at dksX0_found_1 18 rfl rfl)
theorem dX0_found_45 : decode cX0_found 45 = .ok (.bipush (-2), 2) := dk_16 254 (dk_at dksX0_found_1 21 rfl rfl)
theorem dX0_found_47 : decode cX0_found 47 = .ok (.ireturn, 1) := dk_172 (dk_at dksX0_found_1 23 rfl rfl)
theorem dX0_found_48 : decode cX0_found 48 = .ok (.aload_n 0, 1) := dk_42 (dk_at dksX0_found_2 0 rfl rfl)
theorem dX0_found_49 : decode cX0_found 49 = .ok (.getfield 532, 3) := dk_180 2 20 (dk_at dksX0_found_2 1 rfl rfl)
theorem dX0_found_52 : decode cX0_found 52 = .ok (.aload_n 0, 1) := dk_42 (dk_at dksX0_found_2 4 rfl rfl)
theorem dX0_found_53 : decode cX0_found 53 = .ok (.getfield 10, 3) := dk_180 0 10 (dk_at dksX0_found_2 5 rfl rfl)
theorem dX0_found_56 : decode cX0_found 56 = .ok (.getfield 547, 3) := dk_180 2 35 (dk_at dksX0_found_2 8 rfl rfl)
theorem dX0_found_59 : decode cX0_found 59 = .ok (.iload_n 1, 1) := dk_27 (dk_at dksX0_found_2 11 rfl rfl)
theorem dX0_found_60 : decode cX0_found 60 = .ok (.laload, 1) := dk_47 (dk_at dksX0_found_2 12 rfl rfl)
theorem dX0_found_61 : decode cX0_found 61 = .ok (.lsub, 1) := dk_101 (dk_at dksX0_found_2 13 rfl rfl)
theorem dX0_found_62 : decode cX0_found 62 = .ok (.lstore_n 2, 1) := dk_65 (dk_at dksX0_found_2 14 rfl rfl)
theorem dX0_found_63 : decode cX0_found 63 = .ok (.aload_n 0, 1) := dk_42 (dk_at dksX0_found_2 15 rfl rfl)
theorem dX0_found_64 : decode cX0_found 64 = .ok (.getfield 536, 3) := dk_180 2 24 (dk_at dksX0_found_2 16 rfl rfl)
theorem dX0_found_67 : decode cX0_found 67 = .ok (.aload_n 0, 1) := dk_42 (dk_at dksX0_found_2 19 rfl rfl)
theorem dX0_found_68 : decode cX0_found 68 = .ok (.getfield 10, 3) := dk_180 0 10 (dk_at dksX0_found_2 20 rfl rfl)
theorem dX0_found_71 : decode cX0_found 71 = .ok (.getfield 549, 3) := dk_180 2 37 (dk_at dksX0_found_3 0 rfl rfl)
theorem dX0_found_74 : decode cX0_found 74 = .ok (.iload_n 1, 1) := dk_27 (dk_at dksX0_found_3 3 rfl rfl)
theorem dX0_found_75 : decode cX0_found 75 = .ok (.laload, 1) := dk_47 (dk_at dksX0_found_3 4 rfl rfl)
theorem dX0_found_76 : decode cX0_found 76 = .ok (.lsub, 1) := dk_101 (dk_at dksX0_found_3 5 rfl rfl)
theorem dX0_found_77 : decode cX0_found 77 = .ok (.lstore 4, 2) := dk_55 4 (dk_at dksX0_found_3 6 rfl rfl)
theorem dX0_found_79 : decode cX0_found 79 = .ok (.lload_n 2, 1) := dk_32 (dk_at dksX0_found_3 8 rfl rfl)
theorem dX0_found_80 : decode cX0_found 80 = .ok (.lconst 0, 1) := dk_9 (dk_at dksX0_found_3 9 rfl rfl)
theorem dX0_found_81 : decode cX0_found 81 = .ok (.lcmp, 1) := dk_148 (dk_at dksX0_found_3 10 rfl rfl)
theorem dX0_found_82 : decode cX0_found 82 = .ok (.ifCond .ne 12, 3) := dk_154 0 12 (dk_at dksX0_found_3 11 rfl rfl)
theorem dX0_found_85 : decode cX0_found 85 = .ok (.lload 4, 2) := dk_22 4 (dk_at dksX0_found_3 14 rfl rfl)
theorem dX0_found_87 : decode cX0_found 87 = .ok (.lconst 0, 1) := dk_9 (dk_at dksX0_found_3 16 rfl rfl)
theorem dX0_found_88 : decode cX0_found 88 = .ok (.lcmp, 1) := dk_148 (dk_at dksX0_found_3 17 rfl rfl)
theorem dX0_found_89 : decode cX0_found 89 = .ok (.ifCond .ne 5, 3) := dk_154 0 5 (dk_at dksX0_found_3 18 rfl rfl)
theorem dX0_found_92 : decode cX0_found 92 = .ok (.iconst (-1), 1) := dk_2 (dk_at dksX0_found_3 21 rfl rfl)
theorem dX0_found_93 : decode cX0_found 93 = .ok (.ireturn, 1) := dk_172 (dk_at dksX0_found_3 22 rfl rfl)
theorem dX0_found_94 : decode cX0_found 94 = .ok (.iconst 0, 1) := dk_3 (dk_at dksX0_found_3 23 rfl rfl)
theorem dX0_found_95 : decode cX0_found 95 = .ok (.istore 6, 2) := dk_54 6 (dk_at dksX0_found_4 0 rfl rfl)
theorem dX0_found_97 : decode cX0_found 97 = .ok (.iconst 0, 1) := dk_3 (dk_at dksX0_found_4 2 rfl rfl)
theorem dX0_found_98 : decode cX0_found 98 = .ok (.istore 7, 2) := dk_54 7 (dk_at dksX0_found_4 3 rfl rfl)
theorem dX0_found_100 : decode cX0_found 100 = .ok (.iload 7, 2) := dk_21 7 (dk_at dksX0_found_4 5 rfl rfl)
theorem dX0_found_102 : decode cX0_found 102 = .ok (.aload_n 0, 1) := dk_42 (dk_at dksX0_found_4 7 rfl rfl)
theorem dX0_found_103 : decode cX0_found 103 = .ok (.getfield 10, 3) := dk_180 0 10 (dk_at dksX0_found_4 8 rfl rfl)
theorem dX0_found_106 : decode cX0_found 106 = .ok (.getfield 451, 3) := dk_180 1 195 (dk_at dksX0_found_4 11 rfl rfl)
theorem dX0_found_109 : decode cX0_found 109 = .ok (.invokevirtual 148, 3) := dk_182 0 148 (dk_at dksX0_found_4 14 rfl rfl)
theorem dX0_found_112 : decode cX0_found 112 = .ok (.if_icmp .ge 45, 3) := dk_162 0 45 (dk_at dksX0_found_4 17 rfl rfl)
theorem dX0_found_115 : decode cX0_found 115 = .ok (.lload_n 2, 1) := dk_32 (dk_at dksX0_found_4 20 rfl rfl)
theorem dX0_found_116 : decode cX0_found 116 = .ok (.lconst 0, 1) := dk_9 (dk_at dksX0_found_4 21 rfl rfl)
theorem dX0_found_117 : decode cX0_found 117 = .ok (.lcmp, 1) := dk_148 (dk_at dksX0_found_4 22 rfl rfl)
theorem dX0_found_118 : decode cX0_found 118 = .ok (.ifCond .eq 39, 3) := dk_153 0 39 (dk_at dksX0_found_5 0 rfl rfl)
theorem dX0_found_121 : decode cX0_found 121 = .ok (.aload_n 0, 1) := dk_42 (dk_at dksX0_found_5 3 rfl rfl)
theorem dX0_found_122 : decode cX0_found 122 = .ok (.iload 7, 2) := dk_21 7 (dk_at dksX0_found_5 4 rfl rfl)
theorem dX0_found_124 : decode cX0_found 124 = .ok (.iload_n 1, 1) := dk_27 (dk_at dksX0_found_5 6 rfl rfl)
theorem dX0_found_125 : decode cX0_found 125 = .ok (.invokevirtual 542, 3) := dk_182 2 30 (dk_at dksX0_found_5 7 rfl rfl)
theorem dX0_found_128 : decode cX0_found 128 = .ok (.ifCond .ne 6, 3) := dk_154 0 6 (dk_at dksX0_found_5 10 rfl rfl)
theorem dX0_found_131 : decode cX0_found 131 = .ok (.goto 20, 3) := dk_167 0 20 (dk_at dksX0_found_5 13 rfl rfl)
theorem dX0_found_134 : decode cX0_found 134 = .ok (.iinc 6 1, 3) := dk_132 6 1 (dk_at dksX0_found_5 16 rfl rfl)
theorem dX0_found_137 : decode cX0_found 137 = .ok (.iload 6, 2) := dk_21 6 (dk_at dksX0_found_5 19 rfl rfl)
theorem dX0_found_139 : decode cX0_found 139 = .ok (.i2l, 1) := dk_133 (dk_at dksX0_found_5 21 rfl rfl)
theorem dX0_found_140 : decode cX0_found 140 = .ok (.lload_n 2, 1) := dk_32 (dk_at dksX0_found_5 22 rfl rfl)
theorem dX0_found_141 : decode cX0_found 141 = .ok (.lmul, 1) := dk_105 (dk_at dksX0_found_5 23 rfl rfl)
theorem dX0_found_142 : decode cX0_found 142 = .ok (.lload 4, 2) := dk_22 4 (dk_at dksX0_found_6 0 rfl rfl)
theorem dX0_found_144 : decode cX0_found 144 = .ok (.lcmp, 1) := dk_148 (dk_at dksX0_found_6 2 rfl rfl)
theorem dX0_found_145 : decode cX0_found 145 = .ok (.ifCond .ne 6, 3) := dk_154 0 6 (dk_at dksX0_found_6 3 rfl rfl)
theorem dX0_found_148 : decode cX0_found 148 = .ok (.iload 7, 2) := dk_21 7 (dk_at dksX0_found_6 6 rfl rfl)
theorem dX0_found_150 : decode cX0_found 150 = .ok (.ireturn, 1) := dk_172 (dk_at dksX0_found_6 8 rfl rfl)
theorem dX0_found_151 : decode cX0_found 151 = .ok (.iinc 7 1, 3) := dk_132 7 1 (dk_at dksX0_found_6 9 rfl rfl)
theorem dX0_found_154 : decode cX0_found 154 = .ok (.goto (-54), 3) := dk_167 255 202 (dk_at dksX0_found_6 12 rfl rfl)
theorem dX0_found_157 : decode cX0_found 157 = .ok (.bipush (-2), 2) := dk_16 254 (dk_at dksX0_found_6 15 rfl rfl)
theorem dX0_found_159 : decode cX0_found 159 = .ok (.ireturn, 1) := dk_172 (dk_at dksX0_found_6 17 rfl rfl)
def dkwX0_all_5 : List UInt8 := [180, 1, 123, 172, 42, 180, 0, 213, 172, 2, 172]
abbrev dktX0_all_5 : List UInt8 := dkwX0_all_5 ++ []
def dkwX0_all_4 : List UInt8 := [180, 0, 10, 180, 1, 172, 182, 0, 148, 172, 42, 180, 0, 10, 180, 1, 195, 182, 0, 148, 172, 42]
abbrev dktX0_all_4 : List UInt8 := dkwX0_all_4 ++ dktX0_all_5
def dkwX0_all_3 : List UInt8 := [180, 1, 36, 182, 0, 148, 172, 42, 180, 0, 10, 180, 0, 154, 172, 42, 180, 0, 10, 180, 0, 157, 172, 42]
abbrev dktX0_all_3 : List UInt8 := dkwX0_all_3 ++ dktX0_all_4
def dkwX0_all_2 : List UInt8 := [42, 180, 0, 10, 180, 0, 141, 172, 42, 180, 0, 10, 180, 0, 144, 182, 0, 148, 172, 42, 180, 0, 10]
abbrev dktX0_all_2 : List UInt8 := dkwX0_all_2 ++ dktX0_all_3
def dkwX0_all_1 : List UInt8 := [170, 0, 0, 0, 0, 0, 129, 0, 0, 0, 0, 0, 0, 0, 8, 0, 0, 0, 51, 0, 0, 0, 59, 0, 0, 0, 70, 0, 0, 0, 81, 0, 0, 0, 89, 0, 0, 0, 97, 0, 0, 0, 108, 0, 0, 0, 119, 0, 0, 0, 124]
abbrev dktX0_all_1 : List UInt8 := dkwX0_all_1 ++ dktX0_all_2
def dkwX0_all_0 : List UInt8 := [27]
abbrev dktX0_all_0 : List UInt8 := dkwX0_all_0 ++ dktX0_all_1
theorem dksX0_all_0 : cX0_all.data.toList.drop 0 = dktX0_all_0 := by decide +kernel
theorem dksX0_all_1 : cX0_all.data.toList.drop 1 = dktX0_all_1 := dk_seg dksX0_all_0 1 rfl rfl
theorem dksX0_all_2 : cX0_all.data.toList.drop 52 = dktX0_all_2 := dk_seg dksX0_all_1 51 rfl rfl
theorem dksX0_all_3 : cX0_all.data.toList.drop 75 = dktX0_all_3 := dk_seg dksX0_all_2 23 rfl rfl
theorem dksX0_all_4 : cX0_all.data.toList.drop 99 = dktX0_all_4 := dk_seg dksX0_all_3 24 rfl rfl
theorem dksX0_all_5 : cX0_all.data.toList.drop 121 = dktX0_all_5 := dk_seg dksX0_all_4 22 rfl rfl
theorem dX0_all_0 : decode cX0_all 0 = .ok (.iload_n 1, 1) := dk_27 (dk_at dksX0_all_0 0 rfl rfl)
theorem dX0_all_1 : decode cX0_all 1 = .ok (.tableswitch 129 0 8 #[51, 59, 70, 81, 89, 97, 108, 119, 124], 51) := by decide +kernel
theorem dX0_all_52 : decode cX0_all 52 = .ok (.aload_n 0, 1) := dk_42 (dk_at dksX0_all_2 0 rfl rfl)
theorem dX0_all_53 : decode cX0_all 53 = .ok (.getfield 10, 3) := dk_180 0 10 (dk_at dksX0_all_2 1 rfl rfl)
theorem dX0_all_56 : decode cX0_all 56 = .ok (.getfield 141, 3) := dk_180 0 141 (dk_at dksX0_all_2 4 rfl rfl)
theorem dX0_all_59 : decode cX0_all 59 = .ok (.ireturn, 1) := dk_172 (dk_at dksX0_all_2 7 rfl rfl)
theorem dX0_all_60 : decode cX0_all 60 = .ok (.aload_n 0, 1) := dk_42 (dk_at dksX0_all_2 8 rfl rfl)
theorem dX0_all_61 : decode cX0_all 61 = .ok (.getfield 10, 3) := dk_180 0 10 (dk_at dksX0_all_2 9 rfl rfl)
theorem dX0_all_64 : decode cX0_all 64 = .ok (.getfield 144, 3) := dk_180 0 144 (dk_at dksX0_all_2 12 rfl rfl)
theorem dX0_all_67 : decode cX0_all 67 = .ok (.invokevirtual 148, 3) := dk_182 0 148 (dk_at dksX0_all_2 15 rfl rfl)
theorem dX0_all_70 : decode cX0_all 70 = .ok (.ireturn, 1) := dk_172 (dk_at dksX0_all_2 18 rfl rfl)
theorem dX0_all_71 : decode cX0_all 71 = .ok (.aload_n 0, 1) := dk_42 (dk_at dksX0_all_2 19 rfl rfl)
theorem dX0_all_72 : decode cX0_all 72 = .ok (.getfield 10, 3) := dk_180 0 10 (dk_at dksX0_all_2 20 rfl rfl)
theorem dX0_all_75 : decode cX0_all 75 = .ok (.getfield 292, 3) := dk_180 1 36 (dk_at dksX0_all_3 0 rfl rfl)
theorem dX0_all_78 : decode cX0_all 78 = .ok (.invokevirtual 148, 3) := dk_182 0 148 (dk_at dksX0_all_3 3 rfl rfl)
theorem dX0_all_81 : decode cX0_all 81 = .ok (.ireturn, 1) := dk_172 (dk_at dksX0_all_3 6 rfl rfl)
theorem dX0_all_82 : decode cX0_all 82 = .ok (.aload_n 0, 1) := dk_42 (dk_at dksX0_all_3 7 rfl rfl)
theorem dX0_all_83 : decode cX0_all 83 = .ok (.getfield 10, 3) := dk_180 0 10 (dk_at dksX0_all_3 8 rfl rfl)
theorem dX0_all_86 : decode cX0_all 86 = .ok (.getfield 154, 3) := dk_180 0 154 (dk_at dksX0_all_3 11 rfl rfl)
theorem dX0_all_89 : decode cX0_all 89 = .ok (.ireturn, 1) := dk_172 (dk_at dksX0_all_3 14 rfl rfl)
theorem dX0_all_90 : decode cX0_all 90 = .ok (.aload_n 0, 1) := dk_42 (dk_at dksX0_all_3 15 rfl rfl)
theorem dX0_all_91 : decode cX0_all 91 = .ok (.getfield 10, 3) := dk_180 0 10 (dk_at dksX0_all_3 16 rfl rfl)
theorem dX0_all_94 : decode cX0_all 94 = .ok (.getfield 157, 3) := dk_180 0 157 (dk_at dksX0_all_3 19 rfl rfl)
theorem dX0_all_97 : decode cX0_all 97 = .ok (.ireturn, 1) := dk_172 (dk_at dksX0_all_3 22 rfl rfl)
theorem dX0_all_98 : decode cX0_all 98 = .ok (.aload_n 0, 1) := dk_42 (dk_at dksX0_all_3 23 rfl rfl)
theorem dX0_all_99 : decode cX0_all 99 = .ok (.getfield 10, 3) := dk_180 0 10 (dk_at dksX0_all_4 0 rfl rfl)
theorem dX0_all_102 : decode cX0_all 102 = .ok (.getfield 428, 3) := dk_180 1 172 (dk_at dksX0_all_4 3 rfl rfl)
theorem dX0_all_105 : decode cX0_all 105 = .ok (.invokevirtual 148, 3) := dk_182 0 148 (dk_at dksX0_all_4 6 rfl rfl)
theorem dX0_all_108 : decode cX0_all 108 = .ok (.ireturn, 1) := dk_172 (dk_at dksX0_all_4 9 rfl rfl)
theorem dX0_all_109 : decode cX0_all 109 = .ok (.aload_n 0, 1) := dk_42 (dk_at dksX0_all_4 10 rfl rfl)
theorem dX0_all_110 : decode cX0_all 110 = .ok (.getfield 10, 3) := dk_180 0 10 (dk_at dksX0_all_4 11 rfl rfl)
theorem dX0_all_113 : decode cX0_all 113 = .ok (.getfield 451, 3) := dk_180 1 195 (dk_at dksX0_all_4 14 rfl rfl)
theorem dX0_all_116 : decode cX0_all 116 = .ok (.invokevirtual 148, 3) := dk_182 0 148 (dk_at dksX0_all_4 17 rfl rfl)
theorem dX0_all_119 : decode cX0_all 119 = .ok (.ireturn, 1) := dk_172 (dk_at dksX0_all_4 20 rfl rfl)
theorem dX0_all_120 : decode cX0_all 120 = .ok (.aload_n 0, 1) := dk_42 (dk_at dksX0_all_4 21 rfl rfl)
theorem dX0_all_121 : decode cX0_all 121 = .ok (.getfield 379, 3) := dk_180 1 123 (dk_at dksX0_all_5 0 rfl rfl)
theorem dX0_all_124 : decode cX0_all 124 = .ok (.ireturn, 1) := dk_172 (dk_at dksX0_all_5 3 rfl rfl)
theorem dX0_all_125 : decode cX0_all 125 = .ok (.aload_n 0, 1) := dk_42 (dk_at dksX0_all_5 4 rfl rfl)
theorem dX0_all_126 : decode cX0_all 126 = .ok (.getfield 213, 3) := dk_180 0 213 (dk_at dksX0_all_5 5 rfl rfl)
theorem dX0_all_129 : decode cX0_all 129 = .ok (.ireturn, 1) := dk_172 (dk_at dksX0_all_5 8 rfl rfl)
theorem dX0_all_130 : decode cX0_all 130 = .ok (.iconst (-1), 1) := dk_2 (dk_at dksX0_all_5 9 rfl rfl)
theorem dX0_all_131 : decode cX0_all 131 = .ok (.ireturn, 1) := dk_172 (dk_at dksX0_all_5 10 rfl rfl)
theorem dX0_status_0 : decode cX0_status 0 = .ok (.aload_n 0, 1) := by decide +kernel
theorem dX0_status_1 : decode cX0_status 1 = .ok (.getfield 117, 3) := by decide +kernel
theorem dX0_status_4 : decode cX0_status 4 = .ok (.ireturn, 1) := by decide +kernel
