set_option maxRecDepth 100000
abbrev cX9_weight : ByteArray := prog_21_method_76_code
def yX9_weight : MethodName := ⟨RX9, "weight", "(I)I"⟩
def dkwX9_weight_1 : List UInt8 := [182, 0, 107, 172]
abbrev dktX9_weight_1 : List UInt8 := dkwX9_weight_1 ++ []
def dkwX9_weight_0 : List UInt8 := [42, 27, 182, 1, 47, 154, 0, 9, 42, 4, 182, 0, 103, 172, 42, 182, 1, 29, 42, 42, 27, 182, 1, 62]
abbrev dktX9_weight_0 : List UInt8 := dkwX9_weight_0 ++ dktX9_weight_1
theorem dksX9_weight_0 : cX9_weight.data.toList.drop 0 = dktX9_weight_0 := by decide +kernel
theorem dksX9_weight_1 : cX9_weight.data.toList.drop 24 = dktX9_weight_1 := dk_seg dksX9_weight_0 24 rfl rfl
theorem dX9_weight_0 : decode cX9_weight 0 = .ok (.aload_n 0, 1) := dk_42 (dk_at dksX9_weight_0 0 rfl rfl)
theorem dX9_weight_1 : decode cX9_weight 1 = .ok (.iload_n 1, 1) := dk_27 (dk_at dksX9_weight_0 1 rfl rfl)
theorem dX9_weight_2 : decode cX9_weight 2 = .ok (.invokevirtual 303, 3) := dk_182 1 47 (dk_at dksX9_weight_0 2 rfl rfl)
theorem dX9_weight_5 : decode cX9_weight 5 = .ok (.ifCond .ne 9, 3) := dk_154 0 9 (dk_at dksX9_weight_0 5 rfl rfl)
theorem dX9_weight_8 : decode cX9_weight 8 = .ok (.aload_n 0, 1) := dk_42 (dk_at dksX9_weight_0 8 rfl rfl)
theorem dX9_weight_9 : decode cX9_weight 9 = .ok (.iconst 1, 1) := dk_4 (dk_at dksX9_weight_0 9 rfl rfl)
theorem dX9_weight_10 : decode cX9_weight 10 = .ok (.invokevirtual 103, 3) := dk_182 0 103 (dk_at dksX9_weight_0 10 rfl rfl)
theorem dX9_weight_13 : decode cX9_weight 13 = .ok (.ireturn, 1) := dk_172 (dk_at dksX9_weight_0 13 rfl rfl)
theorem dX9_weight_14 : decode cX9_weight 14 = .ok (.aload_n 0, 1) := dk_42 (dk_at dksX9_weight_0 14 rfl rfl)
theorem dX9_weight_15 : decode cX9_weight 15 = .ok (.invokevirtual 285, 3) := dk_182 1 29 (dk_at dksX9_weight_0 15 rfl rfl)
theorem dX9_weight_18 : decode cX9_weight 18 = .ok (.aload_n 0, 1) := dk_42 (dk_at dksX9_weight_0 18 rfl rfl)
theorem dX9_weight_19 : decode cX9_weight 19 = .ok (.aload_n 0, 1) := dk_42 (dk_at dksX9_weight_0 19 rfl rfl)
theorem dX9_weight_20 : decode cX9_weight 20 = .ok (.iload_n 1, 1) := dk_27 (dk_at dksX9_weight_0 20 rfl rfl)
theorem dX9_weight_21 : decode cX9_weight 21 = .ok (.invokevirtual 318, 3) := dk_182 1 62 (dk_at dksX9_weight_0 21 rfl rfl)
theorem dX9_weight_24 : decode cX9_weight 24 = .ok (.invokevirtual 107, 3) := dk_182 0 107 (dk_at dksX9_weight_1 0 rfl rfl)
theorem dX9_weight_27 : decode cX9_weight 27 = .ok (.ireturn, 1) := dk_172 (dk_at dksX9_weight_1 3 rfl rfl)
abbrev cX9_weightAt : ByteArray := prog_21_method_71_code
def yX9_weightAt : MethodName := ⟨RX9, "weightAt", "(I)I"⟩
def dkwX9_weightAt_4 : List UInt8 := [16, 106, 5, 29, 104, 96, 46, 167, 0, 4, 3, 96, 61, 132, 3, 1, 167, 255, 215, 28, 172]
abbrev dktX9_weightAt_4 : List UInt8 := dkwX9_weightAt_4 ++ []
def dkwX9_weightAt_3 : List UInt8 := [180, 0, 7, 6, 46, 162, 0, 37, 28, 42, 180, 0, 50, 29, 46, 27, 160, 0, 17, 42, 180, 0, 7]
abbrev dktX9_weightAt_3 : List UInt8 := dkwX9_weightAt_3 ++ dktX9_weightAt_4
def dkwX9_weightAt_2 : List UInt8 := [160, 0, 11, 42, 29, 182, 1, 59, 167, 0, 4, 3, 96, 61, 132, 3, 1, 167, 255, 221, 3, 62, 29, 42]
abbrev dktX9_weightAt_2 : List UInt8 := dkwX9_weightAt_2 ++ dktX9_weightAt_3
def dkwX9_weightAt_1 : List UInt8 := [3, 96, 61, 3, 62, 29, 42, 180, 0, 7, 5, 46, 162, 0, 31, 28, 42, 180, 0, 47, 29, 46, 27]
abbrev dktX9_weightAt_1 : List UInt8 := dkwX9_weightAt_1 ++ dktX9_weightAt_2
def dkwX9_weightAt_0 : List UInt8 := [42, 180, 0, 7, 16, 8, 27, 96, 46, 27, 42, 180, 1, 53, 160, 0, 10, 42, 180, 1, 56, 167, 0, 4]
abbrev dktX9_weightAt_0 : List UInt8 := dkwX9_weightAt_0 ++ dktX9_weightAt_1
theorem dksX9_weightAt_0 : cX9_weightAt.data.toList.drop 0 = dktX9_weightAt_0 := by decide +kernel
theorem dksX9_weightAt_1 : cX9_weightAt.data.toList.drop 24 = dktX9_weightAt_1 := dk_seg dksX9_weightAt_0 24 rfl rfl
theorem dksX9_weightAt_2 : cX9_weightAt.data.toList.drop 47 = dktX9_weightAt_2 := dk_seg dksX9_weightAt_1 23 rfl rfl
theorem dksX9_weightAt_3 : cX9_weightAt.data.toList.drop 71 = dktX9_weightAt_3 := dk_seg dksX9_weightAt_2 24 rfl rfl
theorem dksX9_weightAt_4 : cX9_weightAt.data.toList.drop 94 = dktX9_weightAt_4 := dk_seg dksX9_weightAt_3 23 rfl rfl
theorem dX9_weightAt_0 : decode cX9_weightAt 0 = .ok (.aload_n 0, 1) := dk_42 (dk_at dksX9_weightAt_0 0 rfl rfl)
theorem dX9_weightAt_1 : decode cX9_weightAt 1 = .ok (.getfield 7, 3) := dk_180 0 7 (dk_at dksX9_weightAt_0 1 rfl rfl)
theorem dX9_weightAt_4 : decode cX9_weightAt 4 = .ok (.bipush 8, 2) := dk_16 8 (dk_at dksX9_weightAt_0 4 rfl rfl)
theorem dX9_weightAt_6 : decode cX9_weightAt 6 = .ok (.iload_n 1, 1) := dk_27 (dk_at dksX9_weightAt_0 6 rfl rfl)
theorem dX9_weightAt_7 : decode cX9_weightAt 7 = .ok (.iadd, 1) := dk_96 (dk_at dksX9_weightAt_0 7 rfl rfl)
theorem dX9_weightAt_8 : decode cX9_weightAt 8 = .ok (.iaload, 1) := dk_46 (dk_at dksX9_weightAt_0 8 rfl rfl)
theorem dX9_weightAt_9 : decode cX9_weightAt 9 = .ok (.iload_n 1, 1) := dk_27 (dk_at dksX9_weightAt_0 9 rfl rfl)
theorem dX9_weightAt_10 : decode cX9_weightAt 10 = .ok (.aload_n 0, 1) := dk_42 (dk_at dksX9_weightAt_0 10 rfl rfl)
theorem dX9_weightAt_11 : decode cX9_weightAt 11 = .ok (.getfield 309, 3) := dk_180 1 53 (dk_at dksX9_weightAt_0 11 rfl rfl)
theorem dX9_weightAt_14 : decode cX9_weightAt 14 = .ok (.if_icmp .ne 10, 3) := dk_160 0 10 (dk_at dksX9_weightAt_0 14 rfl rfl)
theorem dX9_weightAt_17 : decode cX9_weightAt 17 = .ok (.aload_n 0, 1) := dk_42 (dk_at dksX9_weightAt_0 17 rfl rfl)
theorem dX9_weightAt_18 : decode cX9_weightAt 18 = .ok (.getfield 312, 3) := dk_180 1 56 (dk_at dksX9_weightAt_0 18 rfl rfl)
theorem dX9_weightAt_21 : decode cX9_weightAt 21 = .ok (.goto 4, 3) := dk_167 0 4 (dk_at dksX9_weightAt_0 21 rfl rfl)
theorem dX9_weightAt_24 : decode cX9_weightAt 24 = .ok (.iconst 0, 1) := dk_3 (dk_at dksX9_weightAt_1 0 rfl rfl)
theorem dX9_weightAt_25 : decode cX9_weightAt 25 = .ok (.iadd, 1) := dk_96 (dk_at dksX9_weightAt_1 1 rfl rfl)
theorem dX9_weightAt_26 : decode cX9_weightAt 26 = .ok (.istore_n 2, 1) := dk_61 (dk_at dksX9_weightAt_1 2 rfl rfl)
theorem dX9_weightAt_27 : decode cX9_weightAt 27 = .ok (.iconst 0, 1) := dk_3 (dk_at dksX9_weightAt_1 3 rfl rfl)
theorem dX9_weightAt_28 : decode cX9_weightAt 28 = .ok (.istore_n 3, 1) := dk_62 (dk_at dksX9_weightAt_1 4 rfl rfl)
theorem dX9_weightAt_29 : decode cX9_weightAt 29 = .ok (.iload_n 3, 1) := dk_29 (dk_at dksX9_weightAt_1 5 rfl rfl)
theorem dX9_weightAt_30 : decode cX9_weightAt 30 = .ok (.aload_n 0, 1) := dk_42 (dk_at dksX9_weightAt_1 6 rfl rfl)
theorem dX9_weightAt_31 : decode cX9_weightAt 31 = .ok (.getfield 7, 3) := dk_180 0 7 (dk_at dksX9_weightAt_1 7 rfl rfl)
theorem dX9_weightAt_34 : decode cX9_weightAt 34 = .ok (.iconst 2, 1) := dk_5 (dk_at dksX9_weightAt_1 10 rfl rfl)
theorem dX9_weightAt_35 : decode cX9_weightAt 35 = .ok (.iaload, 1) := dk_46 (dk_at dksX9_weightAt_1 11 rfl rfl)
theorem dX9_weightAt_36 : decode cX9_weightAt 36 = .ok (.if_icmp .ge 31, 3) := dk_162 0 31 (dk_at dksX9_weightAt_1 12 rfl rfl)
theorem dX9_weightAt_39 : decode cX9_weightAt 39 = .ok (.iload_n 2, 1) := dk_28 (dk_at dksX9_weightAt_1 15 rfl rfl)
theorem dX9_weightAt_40 : decode cX9_weightAt 40 = .ok (.aload_n 0, 1) := dk_42 (dk_at dksX9_weightAt_1 16 rfl rfl)
theorem dX9_weightAt_41 : decode cX9_weightAt 41 = .ok (.getfield 47, 3) := dk_180 0 47 (dk_at dksX9_weightAt_1 17 rfl rfl)
theorem dX9_weightAt_44 : decode cX9_weightAt 44 = .ok (.iload_n 3, 1) := dk_29 (dk_at dksX9_weightAt_1 20 rfl rfl)
theorem dX9_weightAt_45 : decode cX9_weightAt 45 = .ok (.iaload, 1) := dk_46 (dk_at dksX9_weightAt_1 21 rfl rfl)
theorem dX9_weightAt_46 : decode cX9_weightAt 46 = .ok (.iload_n 1, 1) := dk_27 (dk_at dksX9_weightAt_1 22 rfl rfl)
theorem dX9_weightAt_47 : decode cX9_weightAt 47 = .ok (.if_icmp .ne 11, 3) := dk_160 0 11 (dk_at dksX9_weightAt_2 0 rfl rfl)
theorem dX9_weightAt_50 : decode cX9_weightAt 50 = .ok (.aload_n 0, 1) := dk_42 (dk_at dksX9_weightAt_2 3 rfl rfl)
theorem dX9_weightAt_51 : decode cX9_weightAt 51 = .ok (.iload_n 3, 1) := dk_29 (dk_at dksX9_weightAt_2 4 rfl rfl)
theorem dX9_weightAt_52 : decode cX9_weightAt 52 = .ok (.invokevirtual 315, 3) := dk_182 1 59 (dk_at dksX9_weightAt_2 5 rfl rfl)
theorem dX9_weightAt_55 : decode cX9_weightAt 55 = .ok (.goto 4, 3) := dk_167 0 4 (dk_at dksX9_weightAt_2 8 rfl rfl)
theorem dX9_weightAt_58 : decode cX9_weightAt 58 = .ok (.iconst 0, 1) := dk_3 (dk_at dksX9_weightAt_2 11 rfl rfl)
theorem dX9_weightAt_59 : decode cX9_weightAt 59 = .ok (.iadd, 1) := dk_96 (dk_at dksX9_weightAt_2 12 rfl rfl)
theorem dX9_weightAt_60 : decode cX9_weightAt 60 = .ok (.istore_n 2, 1) := dk_61 (dk_at dksX9_weightAt_2 13 rfl rfl)
theorem dX9_weightAt_61 : decode cX9_weightAt 61 = .ok (.iinc 3 1, 3) := dk_132 3 1 (dk_at dksX9_weightAt_2 14 rfl rfl)
theorem dX9_weightAt_64 : decode cX9_weightAt 64 = .ok (.goto (-35), 3) := dk_167 255 221 (dk_at dksX9_weightAt_2 17 rfl rfl)
theorem dX9_weightAt_67 : decode cX9_weightAt 67 = .ok (.iconst 0, 1) := dk_3 (dk_at dksX9_weightAt_2 20 rfl rfl)
theorem dX9_weightAt_68 : decode cX9_weightAt 68 = .ok (.istore_n 3, 1) := dk_62 (dk_at dksX9_weightAt_2 21 rfl rfl)
theorem dX9_weightAt_69 : decode cX9_weightAt 69 = .ok (.iload_n 3, 1) := dk_29 (dk_at dksX9_weightAt_2 22 rfl rfl)
theorem dX9_weightAt_70 : decode cX9_weightAt 70 = .ok (.aload_n 0, 1) := dk_42 (dk_at dksX9_weightAt_2 23 rfl rfl)
theorem dX9_weightAt_71 : decode cX9_weightAt 71 = .ok (.getfield 7, 3) := dk_180 0 7 (dk_at dksX9_weightAt_3 0 rfl rfl)
theorem dX9_weightAt_74 : decode cX9_weightAt 74 = .ok (.iconst 3, 1) := dk_6 (dk_at dksX9_weightAt_3 3 rfl rfl)
theorem dX9_weightAt_75 : decode cX9_weightAt 75 = .ok (.iaload, 1) := dk_46 (dk_at dksX9_weightAt_3 4 rfl rfl)
theorem dX9_weightAt_76 : decode cX9_weightAt 76 = .ok (.if_icmp .ge 37, 3) := dk_162 0 37 (dk_at dksX9_weightAt_3 5 rfl rfl)
theorem dX9_weightAt_79 : decode cX9_weightAt 79 = .ok (.iload_n 2, 1) := dk_28 (dk_at dksX9_weightAt_3 8 rfl rfl)
theorem dX9_weightAt_80 : decode cX9_weightAt 80 = .ok (.aload_n 0, 1) := dk_42 (dk_at dksX9_weightAt_3 9 rfl rfl)
theorem dX9_weightAt_81 : decode cX9_weightAt 81 = .ok (.getfield 50, 3) := dk_180 0 50 (dk_at dksX9_weightAt_3 10 rfl rfl)
theorem dX9_weightAt_84 : decode cX9_weightAt 84 = .ok (.iload_n 3, 1) := dk_29 (dk_at dksX9_weightAt_3 13 rfl rfl)
theorem dX9_weightAt_85 : decode cX9_weightAt 85 = .ok (.iaload, 1) := dk_46 (dk_at dksX9_weightAt_3 14 rfl rfl)
theorem dX9_weightAt_86 : decode cX9_weightAt 86 = .ok (.iload_n 1, 1) := dk_27 (dk_at dksX9_weightAt_3 15 rfl rfl)
theorem dX9_weightAt_87 : decode cX9_weightAt 87 = .ok (.if_icmp .ne 17, 3) := dk_160 0 17 (dk_at dksX9_weightAt_3 16 rfl rfl)
theorem dX9_weightAt_90 : decode cX9_weightAt 90 = .ok (.aload_n 0, 1) := dk_42 (dk_at dksX9_weightAt_3 19 rfl rfl)
theorem dX9_weightAt_91 : decode cX9_weightAt 91 = .ok (.getfield 7, 3) := dk_180 0 7 (dk_at dksX9_weightAt_3 20 rfl rfl)
theorem dX9_weightAt_94 : decode cX9_weightAt 94 = .ok (.bipush 106, 2) := dk_16 106 (dk_at dksX9_weightAt_4 0 rfl rfl)
theorem dX9_weightAt_96 : decode cX9_weightAt 96 = .ok (.iconst 2, 1) := dk_5 (dk_at dksX9_weightAt_4 2 rfl rfl)
theorem dX9_weightAt_97 : decode cX9_weightAt 97 = .ok (.iload_n 3, 1) := dk_29 (dk_at dksX9_weightAt_4 3 rfl rfl)
theorem dX9_weightAt_98 : decode cX9_weightAt 98 = .ok (.imul, 1) := dk_104 (dk_at dksX9_weightAt_4 4 rfl rfl)
theorem dX9_weightAt_99 : decode cX9_weightAt 99 = .ok (.iadd, 1) := dk_96 (dk_at dksX9_weightAt_4 5 rfl rfl)
theorem dX9_weightAt_100 : decode cX9_weightAt 100 = .ok (.iaload, 1) := dk_46 (dk_at dksX9_weightAt_4 6 rfl rfl)
theorem dX9_weightAt_101 : decode cX9_weightAt 101 = .ok (.goto 4, 3) := dk_167 0 4 (dk_at dksX9_weightAt_4 7 rfl rfl)
theorem dX9_weightAt_104 : decode cX9_weightAt 104 = .ok (.iconst 0, 1) := dk_3 (dk_at dksX9_weightAt_4 10 rfl rfl)
theorem dX9_weightAt_105 : decode cX9_weightAt 105 = .ok (.iadd, 1) := dk_96 (dk_at dksX9_weightAt_4 11 rfl rfl)
theorem dX9_weightAt_106 : decode cX9_weightAt 106 = .ok (.istore_n 2, 1) := dk_61 (dk_at dksX9_weightAt_4 12 rfl rfl)
theorem dX9_weightAt_107 : decode cX9_weightAt 107 = .ok (.iinc 3 1, 3) := dk_132 3 1 (dk_at dksX9_weightAt_4 13 rfl rfl)
theorem dX9_weightAt_110 : decode cX9_weightAt 110 = .ok (.goto (-41), 3) := dk_167 255 215 (dk_at dksX9_weightAt_4 16 rfl rfl)
theorem dX9_weightAt_113 : decode cX9_weightAt 113 = .ok (.iload_n 2, 1) := dk_28 (dk_at dksX9_weightAt_4 19 rfl rfl)
theorem dX9_weightAt_114 : decode cX9_weightAt 114 = .ok (.ireturn, 1) := dk_172 (dk_at dksX9_weightAt_4 20 rfl rfl)
abbrev cX9_burden : ByteArray := prog_21_method_70_code
def yX9_burden : MethodName := ⟨RX9, "burden", "(I)I"⟩
def dkwX9_burden_1 : List UInt8 := [16, 106, 5, 42, 27, 182, 1, 50, 104, 96, 46, 96, 172]
abbrev dktX9_burden_1 : List UInt8 := dkwX9_burden_1 ++ []
def dkwX9_burden_0 : List UInt8 := [42, 27, 3, 182, 1, 2, 42, 27, 182, 1, 50, 2, 160, 0, 7, 3, 167, 0, 18, 42, 180, 0, 7]
abbrev dktX9_burden_0 : List UInt8 := dkwX9_burden_0 ++ dktX9_burden_1
theorem dksX9_burden_0 : cX9_burden.data.toList.drop 0 = dktX9_burden_0 := by decide +kernel
theorem dksX9_burden_1 : cX9_burden.data.toList.drop 23 = dktX9_burden_1 := dk_seg dksX9_burden_0 23 rfl rfl
theorem dX9_burden_0 : decode cX9_burden 0 = .ok (.aload_n 0, 1) := dk_42 (dk_at dksX9_burden_0 0 rfl rfl)
theorem dX9_burden_1 : decode cX9_burden 1 = .ok (.iload_n 1, 1) := dk_27 (dk_at dksX9_burden_0 1 rfl rfl)
theorem dX9_burden_2 : decode cX9_burden 2 = .ok (.iconst 0, 1) := dk_3 (dk_at dksX9_burden_0 2 rfl rfl)
theorem dX9_burden_3 : decode cX9_burden 3 = .ok (.invokevirtual 258, 3) := dk_182 1 2 (dk_at dksX9_burden_0 3 rfl rfl)
theorem dX9_burden_6 : decode cX9_burden 6 = .ok (.aload_n 0, 1) := dk_42 (dk_at dksX9_burden_0 6 rfl rfl)
theorem dX9_burden_7 : decode cX9_burden 7 = .ok (.iload_n 1, 1) := dk_27 (dk_at dksX9_burden_0 7 rfl rfl)
theorem dX9_burden_8 : decode cX9_burden 8 = .ok (.invokevirtual 306, 3) := dk_182 1 50 (dk_at dksX9_burden_0 8 rfl rfl)
theorem dX9_burden_11 : decode cX9_burden 11 = .ok (.iconst (-1), 1) := dk_2 (dk_at dksX9_burden_0 11 rfl rfl)
theorem dX9_burden_12 : decode cX9_burden 12 = .ok (.if_icmp .ne 7, 3) := dk_160 0 7 (dk_at dksX9_burden_0 12 rfl rfl)
theorem dX9_burden_15 : decode cX9_burden 15 = .ok (.iconst 0, 1) := dk_3 (dk_at dksX9_burden_0 15 rfl rfl)
theorem dX9_burden_16 : decode cX9_burden 16 = .ok (.goto 18, 3) := dk_167 0 18 (dk_at dksX9_burden_0 16 rfl rfl)
theorem dX9_burden_19 : decode cX9_burden 19 = .ok (.aload_n 0, 1) := dk_42 (dk_at dksX9_burden_0 19 rfl rfl)
theorem dX9_burden_20 : decode cX9_burden 20 = .ok (.getfield 7, 3) := dk_180 0 7 (dk_at dksX9_burden_0 20 rfl rfl)
theorem dX9_burden_23 : decode cX9_burden 23 = .ok (.bipush 106, 2) := dk_16 106 (dk_at dksX9_burden_1 0 rfl rfl)
theorem dX9_burden_25 : decode cX9_burden 25 = .ok (.iconst 2, 1) := dk_5 (dk_at dksX9_burden_1 2 rfl rfl)
theorem dX9_burden_26 : decode cX9_burden 26 = .ok (.aload_n 0, 1) := dk_42 (dk_at dksX9_burden_1 3 rfl rfl)
theorem dX9_burden_27 : decode cX9_burden 27 = .ok (.iload_n 1, 1) := dk_27 (dk_at dksX9_burden_1 4 rfl rfl)
theorem dX9_burden_28 : decode cX9_burden 28 = .ok (.invokevirtual 306, 3) := dk_182 1 50 (dk_at dksX9_burden_1 5 rfl rfl)
theorem dX9_burden_31 : decode cX9_burden 31 = .ok (.imul, 1) := dk_104 (dk_at dksX9_burden_1 8 rfl rfl)
theorem dX9_burden_32 : decode cX9_burden 32 = .ok (.iadd, 1) := dk_96 (dk_at dksX9_burden_1 9 rfl rfl)
theorem dX9_burden_33 : decode cX9_burden 33 = .ok (.iaload, 1) := dk_46 (dk_at dksX9_burden_1 10 rfl rfl)
theorem dX9_burden_34 : decode cX9_burden 34 = .ok (.iadd, 1) := dk_96 (dk_at dksX9_burden_1 11 rfl rfl)
theorem dX9_burden_35 : decode cX9_burden 35 = .ok (.ireturn, 1) := dk_172 (dk_at dksX9_burden_1 12 rfl rfl)
abbrev cX9_hangs : ByteArray := prog_21_method_77_code
def yX9_hangs : MethodName := ⟨RX9, "hangs", "(I)I"⟩
def dkwX9_hangs_1 : List UInt8 := [182, 1, 68, 153, 0, 7, 4, 167, 0, 4, 3, 182, 0, 107, 172]
abbrev dktX9_hangs_1 : List UInt8 := dkwX9_hangs_1 ++ []
def dkwX9_hangs_0 : List UInt8 := [42, 27, 182, 1, 35, 154, 0, 9, 42, 4, 182, 0, 103, 172, 42, 182, 1, 29, 42, 42, 27, 3]
abbrev dktX9_hangs_0 : List UInt8 := dkwX9_hangs_0 ++ dktX9_hangs_1
theorem dksX9_hangs_0 : cX9_hangs.data.toList.drop 0 = dktX9_hangs_0 := by decide +kernel
theorem dksX9_hangs_1 : cX9_hangs.data.toList.drop 22 = dktX9_hangs_1 := dk_seg dksX9_hangs_0 22 rfl rfl
theorem dX9_hangs_0 : decode cX9_hangs 0 = .ok (.aload_n 0, 1) := dk_42 (dk_at dksX9_hangs_0 0 rfl rfl)
theorem dX9_hangs_1 : decode cX9_hangs 1 = .ok (.iload_n 1, 1) := dk_27 (dk_at dksX9_hangs_0 1 rfl rfl)
theorem dX9_hangs_2 : decode cX9_hangs 2 = .ok (.invokevirtual 291, 3) := dk_182 1 35 (dk_at dksX9_hangs_0 2 rfl rfl)
theorem dX9_hangs_5 : decode cX9_hangs 5 = .ok (.ifCond .ne 9, 3) := dk_154 0 9 (dk_at dksX9_hangs_0 5 rfl rfl)
theorem dX9_hangs_8 : decode cX9_hangs 8 = .ok (.aload_n 0, 1) := dk_42 (dk_at dksX9_hangs_0 8 rfl rfl)
theorem dX9_hangs_9 : decode cX9_hangs 9 = .ok (.iconst 1, 1) := dk_4 (dk_at dksX9_hangs_0 9 rfl rfl)
theorem dX9_hangs_10 : decode cX9_hangs 10 = .ok (.invokevirtual 103, 3) := dk_182 0 103 (dk_at dksX9_hangs_0 10 rfl rfl)
theorem dX9_hangs_13 : decode cX9_hangs 13 = .ok (.ireturn, 1) := dk_172 (dk_at dksX9_hangs_0 13 rfl rfl)
theorem dX9_hangs_14 : decode cX9_hangs 14 = .ok (.aload_n 0, 1) := dk_42 (dk_at dksX9_hangs_0 14 rfl rfl)
theorem dX9_hangs_15 : decode cX9_hangs 15 = .ok (.invokevirtual 285, 3) := dk_182 1 29 (dk_at dksX9_hangs_0 15 rfl rfl)
theorem dX9_hangs_18 : decode cX9_hangs 18 = .ok (.aload_n 0, 1) := dk_42 (dk_at dksX9_hangs_0 18 rfl rfl)
theorem dX9_hangs_19 : decode cX9_hangs 19 = .ok (.aload_n 0, 1) := dk_42 (dk_at dksX9_hangs_0 19 rfl rfl)
theorem dX9_hangs_20 : decode cX9_hangs 20 = .ok (.iload_n 1, 1) := dk_27 (dk_at dksX9_hangs_0 20 rfl rfl)
theorem dX9_hangs_21 : decode cX9_hangs 21 = .ok (.iconst 0, 1) := dk_3 (dk_at dksX9_hangs_0 21 rfl rfl)
theorem dX9_hangs_22 : decode cX9_hangs 22 = .ok (.invokevirtual 324, 3) := dk_182 1 68 (dk_at dksX9_hangs_1 0 rfl rfl)
theorem dX9_hangs_25 : decode cX9_hangs 25 = .ok (.ifCond .eq 7, 3) := dk_153 0 7 (dk_at dksX9_hangs_1 3 rfl rfl)
theorem dX9_hangs_28 : decode cX9_hangs 28 = .ok (.iconst 1, 1) := dk_4 (dk_at dksX9_hangs_1 6 rfl rfl)
theorem dX9_hangs_29 : decode cX9_hangs 29 = .ok (.goto 4, 3) := dk_167 0 4 (dk_at dksX9_hangs_1 7 rfl rfl)
theorem dX9_hangs_32 : decode cX9_hangs 32 = .ok (.iconst 0, 1) := dk_3 (dk_at dksX9_hangs_1 10 rfl rfl)
theorem dX9_hangs_33 : decode cX9_hangs 33 = .ok (.invokevirtual 107, 3) := dk_182 0 107 (dk_at dksX9_hangs_1 11 rfl rfl)
theorem dX9_hangs_36 : decode cX9_hangs 36 = .ok (.ireturn, 1) := dk_172 (dk_at dksX9_hangs_1 14 rfl rfl)
abbrev cX9_hangsBy : ByteArray := prog_21_method_72_code
def yX9_hangsBy : MethodName := ⟨RX9, "hangsBy", "(II)Z"⟩
def dkwX9_hangsBy_3 : List UInt8 := [167, 0, 4, 3, 172]
abbrev dktX9_hangsBy_3 : List UInt8 := dkwX9_hangsBy_3 ++ []
def dkwX9_hangsBy_2 : List UInt8 := [62, 132, 4, 1, 167, 255, 209, 29, 42, 42, 27, 5, 182, 1, 26, 182, 1, 62, 28, 100, 163, 0, 7, 4]
abbrev dktX9_hangsBy_2 : List UInt8 := dkwX9_hangsBy_2 ++ dktX9_hangsBy_3
def dkwX9_hangsBy_1 : List UInt8 := [5, 182, 1, 26, 42, 27, 5, 182, 1, 26, 160, 0, 12, 42, 21, 4, 182, 1, 38, 167, 0, 4, 3, 96]
abbrev dktX9_hangsBy_1 : List UInt8 := dkwX9_hangsBy_1 ++ dktX9_hangsBy_2
def dkwX9_hangsBy_0 : List UInt8 := [3, 62, 3, 54, 4, 21, 4, 27, 163, 0, 47, 29, 21, 4, 42, 180, 0, 53, 159, 0, 28, 42, 21, 4]
abbrev dktX9_hangsBy_0 : List UInt8 := dkwX9_hangsBy_0 ++ dktX9_hangsBy_1
theorem dksX9_hangsBy_0 : cX9_hangsBy.data.toList.drop 0 = dktX9_hangsBy_0 := by decide +kernel
theorem dksX9_hangsBy_1 : cX9_hangsBy.data.toList.drop 24 = dktX9_hangsBy_1 := dk_seg dksX9_hangsBy_0 24 rfl rfl
theorem dksX9_hangsBy_2 : cX9_hangsBy.data.toList.drop 48 = dktX9_hangsBy_2 := dk_seg dksX9_hangsBy_1 24 rfl rfl
theorem dksX9_hangsBy_3 : cX9_hangsBy.data.toList.drop 72 = dktX9_hangsBy_3 := dk_seg dksX9_hangsBy_2 24 rfl rfl
theorem dX9_hangsBy_0 : decode cX9_hangsBy 0 = .ok (.iconst 0, 1) := dk_3 (dk_at dksX9_hangsBy_0 0 rfl rfl)
theorem dX9_hangsBy_1 : decode cX9_hangsBy 1 = .ok (.istore_n 3, 1) := dk_62 (dk_at dksX9_hangsBy_0 1 rfl rfl)
theorem dX9_hangsBy_2 : decode cX9_hangsBy 2 = .ok (.iconst 0, 1) := dk_3 (dk_at dksX9_hangsBy_0 2 rfl rfl)
theorem dX9_hangsBy_3 : decode cX9_hangsBy 3 = .ok (.istore 4, 2) := dk_54 4 (dk_at dksX9_hangsBy_0 3 rfl rfl)
theorem dX9_hangsBy_5 : decode cX9_hangsBy 5 = .ok (.iload 4, 2) := dk_21 4 (dk_at dksX9_hangsBy_0 5 rfl rfl)
theorem dX9_hangsBy_7 : decode cX9_hangsBy 7 = .ok (.iload_n 1, 1) := dk_27 (dk_at dksX9_hangsBy_0 7 rfl rfl)
theorem dX9_hangsBy_8 : decode cX9_hangsBy 8 = .ok (.if_icmp .gt 47, 3) := dk_163 0 47 (dk_at dksX9_hangsBy_0 8 rfl rfl)
theorem dX9_hangsBy_11 : decode cX9_hangsBy 11 = .ok (.iload_n 3, 1) := dk_29 (dk_at dksX9_hangsBy_0 11 rfl rfl)
theorem dX9_hangsBy_12 : decode cX9_hangsBy 12 = .ok (.iload 4, 2) := dk_21 4 (dk_at dksX9_hangsBy_0 12 rfl rfl)
theorem dX9_hangsBy_14 : decode cX9_hangsBy 14 = .ok (.aload_n 0, 1) := dk_42 (dk_at dksX9_hangsBy_0 14 rfl rfl)
theorem dX9_hangsBy_15 : decode cX9_hangsBy 15 = .ok (.getfield 53, 3) := dk_180 0 53 (dk_at dksX9_hangsBy_0 15 rfl rfl)
theorem dX9_hangsBy_18 : decode cX9_hangsBy 18 = .ok (.if_icmp .eq 28, 3) := dk_159 0 28 (dk_at dksX9_hangsBy_0 18 rfl rfl)
theorem dX9_hangsBy_21 : decode cX9_hangsBy 21 = .ok (.aload_n 0, 1) := dk_42 (dk_at dksX9_hangsBy_0 21 rfl rfl)
theorem dX9_hangsBy_22 : decode cX9_hangsBy 22 = .ok (.iload 4, 2) := dk_21 4 (dk_at dksX9_hangsBy_0 22 rfl rfl)
theorem dX9_hangsBy_24 : decode cX9_hangsBy 24 = .ok (.iconst 2, 1) := dk_5 (dk_at dksX9_hangsBy_1 0 rfl rfl)
theorem dX9_hangsBy_25 : decode cX9_hangsBy 25 = .ok (.invokevirtual 282, 3) := dk_182 1 26 (dk_at dksX9_hangsBy_1 1 rfl rfl)
theorem dX9_hangsBy_28 : decode cX9_hangsBy 28 = .ok (.aload_n 0, 1) := dk_42 (dk_at dksX9_hangsBy_1 4 rfl rfl)
theorem dX9_hangsBy_29 : decode cX9_hangsBy 29 = .ok (.iload_n 1, 1) := dk_27 (dk_at dksX9_hangsBy_1 5 rfl rfl)
theorem dX9_hangsBy_30 : decode cX9_hangsBy 30 = .ok (.iconst 2, 1) := dk_5 (dk_at dksX9_hangsBy_1 6 rfl rfl)
theorem dX9_hangsBy_31 : decode cX9_hangsBy 31 = .ok (.invokevirtual 282, 3) := dk_182 1 26 (dk_at dksX9_hangsBy_1 7 rfl rfl)
theorem dX9_hangsBy_34 : decode cX9_hangsBy 34 = .ok (.if_icmp .ne 12, 3) := dk_160 0 12 (dk_at dksX9_hangsBy_1 10 rfl rfl)
theorem dX9_hangsBy_37 : decode cX9_hangsBy 37 = .ok (.aload_n 0, 1) := dk_42 (dk_at dksX9_hangsBy_1 13 rfl rfl)
theorem dX9_hangsBy_38 : decode cX9_hangsBy 38 = .ok (.iload 4, 2) := dk_21 4 (dk_at dksX9_hangsBy_1 14 rfl rfl)
theorem dX9_hangsBy_40 : decode cX9_hangsBy 40 = .ok (.invokevirtual 294, 3) := dk_182 1 38 (dk_at dksX9_hangsBy_1 16 rfl rfl)
theorem dX9_hangsBy_43 : decode cX9_hangsBy 43 = .ok (.goto 4, 3) := dk_167 0 4 (dk_at dksX9_hangsBy_1 19 rfl rfl)
theorem dX9_hangsBy_46 : decode cX9_hangsBy 46 = .ok (.iconst 0, 1) := dk_3 (dk_at dksX9_hangsBy_1 22 rfl rfl)
theorem dX9_hangsBy_47 : decode cX9_hangsBy 47 = .ok (.iadd, 1) := dk_96 (dk_at dksX9_hangsBy_1 23 rfl rfl)
theorem dX9_hangsBy_48 : decode cX9_hangsBy 48 = .ok (.istore_n 3, 1) := dk_62 (dk_at dksX9_hangsBy_2 0 rfl rfl)
theorem dX9_hangsBy_49 : decode cX9_hangsBy 49 = .ok (.iinc 4 1, 3) := dk_132 4 1 (dk_at dksX9_hangsBy_2 1 rfl rfl)
theorem dX9_hangsBy_52 : decode cX9_hangsBy 52 = .ok (.goto (-47), 3) := dk_167 255 209 (dk_at dksX9_hangsBy_2 4 rfl rfl)
theorem dX9_hangsBy_55 : decode cX9_hangsBy 55 = .ok (.iload_n 3, 1) := dk_29 (dk_at dksX9_hangsBy_2 7 rfl rfl)
theorem dX9_hangsBy_56 : decode cX9_hangsBy 56 = .ok (.aload_n 0, 1) := dk_42 (dk_at dksX9_hangsBy_2 8 rfl rfl)
theorem dX9_hangsBy_57 : decode cX9_hangsBy 57 = .ok (.aload_n 0, 1) := dk_42 (dk_at dksX9_hangsBy_2 9 rfl rfl)
theorem dX9_hangsBy_58 : decode cX9_hangsBy 58 = .ok (.iload_n 1, 1) := dk_27 (dk_at dksX9_hangsBy_2 10 rfl rfl)
theorem dX9_hangsBy_59 : decode cX9_hangsBy 59 = .ok (.iconst 2, 1) := dk_5 (dk_at dksX9_hangsBy_2 11 rfl rfl)
theorem dX9_hangsBy_60 : decode cX9_hangsBy 60 = .ok (.invokevirtual 282, 3) := dk_182 1 26 (dk_at dksX9_hangsBy_2 12 rfl rfl)
theorem dX9_hangsBy_63 : decode cX9_hangsBy 63 = .ok (.invokevirtual 318, 3) := dk_182 1 62 (dk_at dksX9_hangsBy_2 15 rfl rfl)
theorem dX9_hangsBy_66 : decode cX9_hangsBy 66 = .ok (.iload_n 2, 1) := dk_28 (dk_at dksX9_hangsBy_2 18 rfl rfl)
theorem dX9_hangsBy_67 : decode cX9_hangsBy 67 = .ok (.isub, 1) := dk_100 (dk_at dksX9_hangsBy_2 19 rfl rfl)
theorem dX9_hangsBy_68 : decode cX9_hangsBy 68 = .ok (.if_icmp .gt 7, 3) := dk_163 0 7 (dk_at dksX9_hangsBy_2 20 rfl rfl)
theorem dX9_hangsBy_71 : decode cX9_hangsBy 71 = .ok (.iconst 1, 1) := dk_4 (dk_at dksX9_hangsBy_2 23 rfl rfl)
theorem dX9_hangsBy_72 : decode cX9_hangsBy 72 = .ok (.goto 4, 3) := dk_167 0 4 (dk_at dksX9_hangsBy_3 0 rfl rfl)
theorem dX9_hangsBy_75 : decode cX9_hangsBy 75 = .ok (.iconst 0, 1) := dk_3 (dk_at dksX9_hangsBy_3 3 rfl rfl)
theorem dX9_hangsBy_76 : decode cX9_hangsBy 76 = .ok (.ireturn, 1) := dk_172 (dk_at dksX9_hangsBy_3 4 rfl rfl)
abbrev cX9_put : ByteArray := prog_21_method_78_code
def yX9_put : MethodName := ⟨RX9, "put", "(II)Z"⟩
def dkwX9_put_1 : List UInt8 := [180, 0, 7, 16, 110, 27, 96, 28, 79, 42, 3, 182, 0, 110, 172]
abbrev dktX9_put_1 : List UInt8 := dkwX9_put_1 ++ []
def dkwX9_put_0 : List UInt8 := [42, 27, 182, 1, 41, 153, 0, 11, 42, 28, 182, 1, 47, 154, 0, 9, 42, 4, 182, 0, 110, 172, 42]
abbrev dktX9_put_0 : List UInt8 := dkwX9_put_0 ++ dktX9_put_1
theorem dksX9_put_0 : cX9_put.data.toList.drop 0 = dktX9_put_0 := by decide +kernel
theorem dksX9_put_1 : cX9_put.data.toList.drop 23 = dktX9_put_1 := dk_seg dksX9_put_0 23 rfl rfl
theorem dX9_put_0 : decode cX9_put 0 = .ok (.aload_n 0, 1) := dk_42 (dk_at dksX9_put_0 0 rfl rfl)
theorem dX9_put_1 : decode cX9_put 1 = .ok (.iload_n 1, 1) := dk_27 (dk_at dksX9_put_0 1 rfl rfl)
theorem dX9_put_2 : decode cX9_put 2 = .ok (.invokevirtual 297, 3) := dk_182 1 41 (dk_at dksX9_put_0 2 rfl rfl)
theorem dX9_put_5 : decode cX9_put 5 = .ok (.ifCond .eq 11, 3) := dk_153 0 11 (dk_at dksX9_put_0 5 rfl rfl)
theorem dX9_put_8 : decode cX9_put 8 = .ok (.aload_n 0, 1) := dk_42 (dk_at dksX9_put_0 8 rfl rfl)
theorem dX9_put_9 : decode cX9_put 9 = .ok (.iload_n 2, 1) := dk_28 (dk_at dksX9_put_0 9 rfl rfl)
theorem dX9_put_10 : decode cX9_put 10 = .ok (.invokevirtual 303, 3) := dk_182 1 47 (dk_at dksX9_put_0 10 rfl rfl)
theorem dX9_put_13 : decode cX9_put 13 = .ok (.ifCond .ne 9, 3) := dk_154 0 9 (dk_at dksX9_put_0 13 rfl rfl)
theorem dX9_put_16 : decode cX9_put 16 = .ok (.aload_n 0, 1) := dk_42 (dk_at dksX9_put_0 16 rfl rfl)
theorem dX9_put_17 : decode cX9_put 17 = .ok (.iconst 1, 1) := dk_4 (dk_at dksX9_put_0 17 rfl rfl)
theorem dX9_put_18 : decode cX9_put 18 = .ok (.invokevirtual 110, 3) := dk_182 0 110 (dk_at dksX9_put_0 18 rfl rfl)
theorem dX9_put_21 : decode cX9_put 21 = .ok (.ireturn, 1) := dk_172 (dk_at dksX9_put_0 21 rfl rfl)
theorem dX9_put_22 : decode cX9_put 22 = .ok (.aload_n 0, 1) := dk_42 (dk_at dksX9_put_0 22 rfl rfl)
theorem dX9_put_23 : decode cX9_put 23 = .ok (.getfield 7, 3) := dk_180 0 7 (dk_at dksX9_put_1 0 rfl rfl)
theorem dX9_put_26 : decode cX9_put 26 = .ok (.bipush 110, 2) := dk_16 110 (dk_at dksX9_put_1 3 rfl rfl)
theorem dX9_put_28 : decode cX9_put 28 = .ok (.iload_n 1, 1) := dk_27 (dk_at dksX9_put_1 5 rfl rfl)
theorem dX9_put_29 : decode cX9_put 29 = .ok (.iadd, 1) := dk_96 (dk_at dksX9_put_1 6 rfl rfl)
theorem dX9_put_30 : decode cX9_put 30 = .ok (.iload_n 2, 1) := dk_28 (dk_at dksX9_put_1 7 rfl rfl)
theorem dX9_put_31 : decode cX9_put 31 = .ok (.iastore, 1) := dk_79 (dk_at dksX9_put_1 8 rfl rfl)
theorem dX9_put_32 : decode cX9_put 32 = .ok (.aload_n 0, 1) := dk_42 (dk_at dksX9_put_1 9 rfl rfl)
theorem dX9_put_33 : decode cX9_put 33 = .ok (.iconst 0, 1) := dk_3 (dk_at dksX9_put_1 10 rfl rfl)
theorem dX9_put_34 : decode cX9_put 34 = .ok (.invokevirtual 110, 3) := dk_182 0 110 (dk_at dksX9_put_1 11 rfl rfl)
theorem dX9_put_37 : decode cX9_put 37 = .ok (.ireturn, 1) := dk_172 (dk_at dksX9_put_1 14 rfl rfl)
abbrev cX9_begin : ByteArray := prog_21_method_79_code
def yX9_begin : MethodName := ⟨RX9, "begin", "()Z"⟩
def dkwX9_begin_0 : List UInt8 := [42, 182, 0, 252, 42, 3, 182, 0, 110, 172]
abbrev dktX9_begin_0 : List UInt8 := dkwX9_begin_0 ++ []
theorem dksX9_begin_0 : cX9_begin.data.toList.drop 0 = dktX9_begin_0 := by decide +kernel
theorem dX9_begin_0 : decode cX9_begin 0 = .ok (.aload_n 0, 1) := dk_42 (dk_at dksX9_begin_0 0 rfl rfl)
theorem dX9_begin_1 : decode cX9_begin 1 = .ok (.invokevirtual 252, 3) := dk_182 0 252 (dk_at dksX9_begin_0 1 rfl rfl)
theorem dX9_begin_4 : decode cX9_begin 4 = .ok (.aload_n 0, 1) := dk_42 (dk_at dksX9_begin_0 4 rfl rfl)
theorem dX9_begin_5 : decode cX9_begin 5 = .ok (.iconst 0, 1) := dk_3 (dk_at dksX9_begin_0 5 rfl rfl)
theorem dX9_begin_6 : decode cX9_begin 6 = .ok (.invokevirtual 110, 3) := dk_182 0 110 (dk_at dksX9_begin_0 6 rfl rfl)
theorem dX9_begin_9 : decode cX9_begin 9 = .ok (.ireturn, 1) := dk_172 (dk_at dksX9_begin_0 9 rfl rfl)
abbrev cX9_go : ByteArray := prog_21_method_86_code
def yX9_go : MethodName := ⟨RX9, "go", "(II)Z"⟩
def dkwX9_go_1 : List UInt8 := [182, 1, 29, 42, 42, 27, 2, 28, 182, 1, 82, 182, 1, 85, 172]
abbrev dktX9_go_1 : List UInt8 := dkwX9_go_1 ++ []
def dkwX9_go_0 : List UInt8 := [42, 27, 182, 1, 41, 153, 0, 11, 42, 28, 182, 1, 35, 154, 0, 9, 42, 4, 182, 0, 110, 172, 42]
abbrev dktX9_go_0 : List UInt8 := dkwX9_go_0 ++ dktX9_go_1
theorem dksX9_go_0 : cX9_go.data.toList.drop 0 = dktX9_go_0 := by decide +kernel
theorem dksX9_go_1 : cX9_go.data.toList.drop 23 = dktX9_go_1 := dk_seg dksX9_go_0 23 rfl rfl
theorem dX9_go_0 : decode cX9_go 0 = .ok (.aload_n 0, 1) := dk_42 (dk_at dksX9_go_0 0 rfl rfl)
theorem dX9_go_1 : decode cX9_go 1 = .ok (.iload_n 1, 1) := dk_27 (dk_at dksX9_go_0 1 rfl rfl)
theorem dX9_go_2 : decode cX9_go 2 = .ok (.invokevirtual 297, 3) := dk_182 1 41 (dk_at dksX9_go_0 2 rfl rfl)
theorem dX9_go_5 : decode cX9_go 5 = .ok (.ifCond .eq 11, 3) := dk_153 0 11 (dk_at dksX9_go_0 5 rfl rfl)
theorem dX9_go_8 : decode cX9_go 8 = .ok (.aload_n 0, 1) := dk_42 (dk_at dksX9_go_0 8 rfl rfl)
theorem dX9_go_9 : decode cX9_go 9 = .ok (.iload_n 2, 1) := dk_28 (dk_at dksX9_go_0 9 rfl rfl)
theorem dX9_go_10 : decode cX9_go 10 = .ok (.invokevirtual 291, 3) := dk_182 1 35 (dk_at dksX9_go_0 10 rfl rfl)
theorem dX9_go_13 : decode cX9_go 13 = .ok (.ifCond .ne 9, 3) := dk_154 0 9 (dk_at dksX9_go_0 13 rfl rfl)
theorem dX9_go_16 : decode cX9_go 16 = .ok (.aload_n 0, 1) := dk_42 (dk_at dksX9_go_0 16 rfl rfl)
theorem dX9_go_17 : decode cX9_go 17 = .ok (.iconst 1, 1) := dk_4 (dk_at dksX9_go_0 17 rfl rfl)
theorem dX9_go_18 : decode cX9_go 18 = .ok (.invokevirtual 110, 3) := dk_182 0 110 (dk_at dksX9_go_0 18 rfl rfl)
theorem dX9_go_21 : decode cX9_go 21 = .ok (.ireturn, 1) := dk_172 (dk_at dksX9_go_0 21 rfl rfl)
theorem dX9_go_22 : decode cX9_go 22 = .ok (.aload_n 0, 1) := dk_42 (dk_at dksX9_go_0 22 rfl rfl)
theorem dX9_go_23 : decode cX9_go 23 = .ok (.invokevirtual 285, 3) := dk_182 1 29 (dk_at dksX9_go_1 0 rfl rfl)
theorem dX9_go_26 : decode cX9_go 26 = .ok (.aload_n 0, 1) := dk_42 (dk_at dksX9_go_1 3 rfl rfl)
theorem dX9_go_27 : decode cX9_go 27 = .ok (.aload_n 0, 1) := dk_42 (dk_at dksX9_go_1 4 rfl rfl)
theorem dX9_go_28 : decode cX9_go 28 = .ok (.iload_n 1, 1) := dk_27 (dk_at dksX9_go_1 5 rfl rfl)
theorem dX9_go_29 : decode cX9_go 29 = .ok (.iconst (-1), 1) := dk_2 (dk_at dksX9_go_1 6 rfl rfl)
theorem dX9_go_30 : decode cX9_go 30 = .ok (.iload_n 2, 1) := dk_28 (dk_at dksX9_go_1 7 rfl rfl)
theorem dX9_go_31 : decode cX9_go 31 = .ok (.invokevirtual 338, 3) := dk_182 1 82 (dk_at dksX9_go_1 8 rfl rfl)
theorem dX9_go_34 : decode cX9_go 34 = .ok (.invokevirtual 341, 3) := dk_182 1 85 (dk_at dksX9_go_1 11 rfl rfl)
theorem dX9_go_37 : decode cX9_go 37 = .ok (.ireturn, 1) := dk_172 (dk_at dksX9_go_1 14 rfl rfl)
abbrev cX9_goesOver : ByteArray := prog_21_method_82_code
def yX9_goesOver : MethodName := ⟨RX9, "goesOver", "(III)Z"⟩
def dkwX9_goesOver_1 : List UInt8 := [182, 1, 75, 28, 2, 159, 0, 9, 42, 28, 29, 182, 1, 75, 4, 172]
abbrev dktX9_goesOver_1 : List UInt8 := dkwX9_goesOver_1 ++ []
def dkwX9_goesOver_0 : List UInt8 := [29, 42, 180, 0, 53, 159, 0, 13, 42, 27, 28, 29, 182, 1, 71, 158, 0, 5, 3, 172, 42, 27, 29]
abbrev dktX9_goesOver_0 : List UInt8 := dkwX9_goesOver_0 ++ dktX9_goesOver_1
theorem dksX9_goesOver_0 : cX9_goesOver.data.toList.drop 0 = dktX9_goesOver_0 := by decide +kernel
theorem dksX9_goesOver_1 : cX9_goesOver.data.toList.drop 23 = dktX9_goesOver_1 := dk_seg dksX9_goesOver_0 23 rfl rfl
theorem dX9_goesOver_0 : decode cX9_goesOver 0 = .ok (.iload_n 3, 1) := dk_29 (dk_at dksX9_goesOver_0 0 rfl rfl)
theorem dX9_goesOver_1 : decode cX9_goesOver 1 = .ok (.aload_n 0, 1) := dk_42 (dk_at dksX9_goesOver_0 1 rfl rfl)
theorem dX9_goesOver_2 : decode cX9_goesOver 2 = .ok (.getfield 53, 3) := dk_180 0 53 (dk_at dksX9_goesOver_0 2 rfl rfl)
theorem dX9_goesOver_5 : decode cX9_goesOver 5 = .ok (.if_icmp .eq 13, 3) := dk_159 0 13 (dk_at dksX9_goesOver_0 5 rfl rfl)
theorem dX9_goesOver_8 : decode cX9_goesOver 8 = .ok (.aload_n 0, 1) := dk_42 (dk_at dksX9_goesOver_0 8 rfl rfl)
theorem dX9_goesOver_9 : decode cX9_goesOver 9 = .ok (.iload_n 1, 1) := dk_27 (dk_at dksX9_goesOver_0 9 rfl rfl)
theorem dX9_goesOver_10 : decode cX9_goesOver 10 = .ok (.iload_n 2, 1) := dk_28 (dk_at dksX9_goesOver_0 10 rfl rfl)
theorem dX9_goesOver_11 : decode cX9_goesOver 11 = .ok (.iload_n 3, 1) := dk_29 (dk_at dksX9_goesOver_0 11 rfl rfl)
theorem dX9_goesOver_12 : decode cX9_goesOver 12 = .ok (.invokevirtual 327, 3) := dk_182 1 71 (dk_at dksX9_goesOver_0 12 rfl rfl)
theorem dX9_goesOver_15 : decode cX9_goesOver 15 = .ok (.ifCond .le 5, 3) := dk_158 0 5 (dk_at dksX9_goesOver_0 15 rfl rfl)
theorem dX9_goesOver_18 : decode cX9_goesOver 18 = .ok (.iconst 0, 1) := dk_3 (dk_at dksX9_goesOver_0 18 rfl rfl)
theorem dX9_goesOver_19 : decode cX9_goesOver 19 = .ok (.ireturn, 1) := dk_172 (dk_at dksX9_goesOver_0 19 rfl rfl)
theorem dX9_goesOver_20 : decode cX9_goesOver 20 = .ok (.aload_n 0, 1) := dk_42 (dk_at dksX9_goesOver_0 20 rfl rfl)
theorem dX9_goesOver_21 : decode cX9_goesOver 21 = .ok (.iload_n 1, 1) := dk_27 (dk_at dksX9_goesOver_0 21 rfl rfl)
theorem dX9_goesOver_22 : decode cX9_goesOver 22 = .ok (.iload_n 3, 1) := dk_29 (dk_at dksX9_goesOver_0 22 rfl rfl)
theorem dX9_goesOver_23 : decode cX9_goesOver 23 = .ok (.invokevirtual 331, 3) := dk_182 1 75 (dk_at dksX9_goesOver_1 0 rfl rfl)
theorem dX9_goesOver_26 : decode cX9_goesOver 26 = .ok (.iload_n 2, 1) := dk_28 (dk_at dksX9_goesOver_1 3 rfl rfl)
theorem dX9_goesOver_27 : decode cX9_goesOver 27 = .ok (.iconst (-1), 1) := dk_2 (dk_at dksX9_goesOver_1 4 rfl rfl)
theorem dX9_goesOver_28 : decode cX9_goesOver 28 = .ok (.if_icmp .eq 9, 3) := dk_159 0 9 (dk_at dksX9_goesOver_1 5 rfl rfl)
theorem dX9_goesOver_31 : decode cX9_goesOver 31 = .ok (.aload_n 0, 1) := dk_42 (dk_at dksX9_goesOver_1 8 rfl rfl)
theorem dX9_goesOver_32 : decode cX9_goesOver 32 = .ok (.iload_n 2, 1) := dk_28 (dk_at dksX9_goesOver_1 9 rfl rfl)
theorem dX9_goesOver_33 : decode cX9_goesOver 33 = .ok (.iload_n 3, 1) := dk_29 (dk_at dksX9_goesOver_1 10 rfl rfl)
theorem dX9_goesOver_34 : decode cX9_goesOver 34 = .ok (.invokevirtual 331, 3) := dk_182 1 75 (dk_at dksX9_goesOver_1 11 rfl rfl)
theorem dX9_goesOver_37 : decode cX9_goesOver 37 = .ok (.iconst 1, 1) := dk_4 (dk_at dksX9_goesOver_1 14 rfl rfl)
theorem dX9_goesOver_38 : decode cX9_goesOver 38 = .ok (.ireturn, 1) := dk_172 (dk_at dksX9_goesOver_1 15 rfl rfl)
abbrev cX9_whyNot : ByteArray := prog_21_method_80_code
def yX9_whyNot : MethodName := ⟨RX9, "whyNot", "(III)I"⟩
def dkwX9_whyNot_5 : List UInt8 := [28, 2, 159, 0, 13, 42, 28, 7, 182, 1, 2, 4, 160, 0, 7, 7, 167, 0, 4, 3, 172]
abbrev dktX9_whyNot_5 : List UInt8 := dkwX9_whyNot_5 ++ []
def dkwX9_whyNot_4 : List UInt8 := [172, 21, 5, 42, 29, 8, 182, 1, 26, 164, 0, 5, 6, 172, 42, 27, 7, 182, 1, 2, 4, 160, 0, 22]
abbrev dktX9_whyNot_4 : List UInt8 := dkwX9_whyNot_4 ++ dktX9_whyNot_5
def dkwX9_whyNot_3 : List UInt8 := [21, 4, 42, 29, 5, 182, 1, 26, 160, 0, 8, 21, 5, 167, 0, 4, 3, 182, 1, 68, 154, 0, 5, 5]
abbrev dktX9_whyNot_3 : List UInt8 := dkwX9_whyNot_3 ++ dktX9_whyNot_4
def dkwX9_whyNot_2 : List UInt8 := [42, 27, 182, 1, 59, 28, 2, 160, 0, 7, 3, 167, 0, 8, 42, 28, 182, 1, 59, 96, 54, 5, 42, 29]
abbrev dktX9_whyNot_2 : List UInt8 := dkwX9_whyNot_2 ++ dktX9_whyNot_3
def dkwX9_whyNot_1 : List UInt8 := [182, 1, 26, 160, 0, 19, 28, 2, 159, 0, 16, 42, 180, 0, 47, 28, 46, 21, 4, 159, 0, 5, 4, 172]
abbrev dktX9_whyNot_1 : List UInt8 := dkwX9_whyNot_1 ++ dktX9_whyNot_2
def dkwX9_whyNot_0 : List UInt8 := [42, 180, 0, 47, 27, 46, 54, 4, 21, 4, 42, 29, 3, 182, 1, 26, 159, 0, 14, 21, 4, 42, 29, 4]
abbrev dktX9_whyNot_0 : List UInt8 := dkwX9_whyNot_0 ++ dktX9_whyNot_1
theorem dksX9_whyNot_0 : cX9_whyNot.data.toList.drop 0 = dktX9_whyNot_0 := by decide +kernel
theorem dksX9_whyNot_1 : cX9_whyNot.data.toList.drop 24 = dktX9_whyNot_1 := dk_seg dksX9_whyNot_0 24 rfl rfl
theorem dksX9_whyNot_2 : cX9_whyNot.data.toList.drop 48 = dktX9_whyNot_2 := dk_seg dksX9_whyNot_1 24 rfl rfl
theorem dksX9_whyNot_3 : cX9_whyNot.data.toList.drop 72 = dktX9_whyNot_3 := dk_seg dksX9_whyNot_2 24 rfl rfl
theorem dksX9_whyNot_4 : cX9_whyNot.data.toList.drop 96 = dktX9_whyNot_4 := dk_seg dksX9_whyNot_3 24 rfl rfl
theorem dksX9_whyNot_5 : cX9_whyNot.data.toList.drop 120 = dktX9_whyNot_5 := dk_seg dksX9_whyNot_4 24 rfl rfl
theorem dX9_whyNot_0 : decode cX9_whyNot 0 = .ok (.aload_n 0, 1) := dk_42 (dk_at dksX9_whyNot_0 0 rfl rfl)
theorem dX9_whyNot_1 : decode cX9_whyNot 1 = .ok (.getfield 47, 3) := dk_180 0 47 (dk_at dksX9_whyNot_0 1 rfl rfl)
theorem dX9_whyNot_4 : decode cX9_whyNot 4 = .ok (.iload_n 1, 1) := dk_27 (dk_at dksX9_whyNot_0 4 rfl rfl)
theorem dX9_whyNot_5 : decode cX9_whyNot 5 = .ok (.iaload, 1) := dk_46 (dk_at dksX9_whyNot_0 5 rfl rfl)
theorem dX9_whyNot_6 : decode cX9_whyNot 6 = .ok (.istore 4, 2) := dk_54 4 (dk_at dksX9_whyNot_0 6 rfl rfl)
theorem dX9_whyNot_8 : decode cX9_whyNot 8 = .ok (.iload 4, 2) := dk_21 4 (dk_at dksX9_whyNot_0 8 rfl rfl)
theorem dX9_whyNot_10 : decode cX9_whyNot 10 = .ok (.aload_n 0, 1) := dk_42 (dk_at dksX9_whyNot_0 10 rfl rfl)
theorem dX9_whyNot_11 : decode cX9_whyNot 11 = .ok (.iload_n 3, 1) := dk_29 (dk_at dksX9_whyNot_0 11 rfl rfl)
theorem dX9_whyNot_12 : decode cX9_whyNot 12 = .ok (.iconst 0, 1) := dk_3 (dk_at dksX9_whyNot_0 12 rfl rfl)
theorem dX9_whyNot_13 : decode cX9_whyNot 13 = .ok (.invokevirtual 282, 3) := dk_182 1 26 (dk_at dksX9_whyNot_0 13 rfl rfl)
theorem dX9_whyNot_16 : decode cX9_whyNot 16 = .ok (.if_icmp .eq 14, 3) := dk_159 0 14 (dk_at dksX9_whyNot_0 16 rfl rfl)
theorem dX9_whyNot_19 : decode cX9_whyNot 19 = .ok (.iload 4, 2) := dk_21 4 (dk_at dksX9_whyNot_0 19 rfl rfl)
theorem dX9_whyNot_21 : decode cX9_whyNot 21 = .ok (.aload_n 0, 1) := dk_42 (dk_at dksX9_whyNot_0 21 rfl rfl)
theorem dX9_whyNot_22 : decode cX9_whyNot 22 = .ok (.iload_n 3, 1) := dk_29 (dk_at dksX9_whyNot_0 22 rfl rfl)
theorem dX9_whyNot_23 : decode cX9_whyNot 23 = .ok (.iconst 1, 1) := dk_4 (dk_at dksX9_whyNot_0 23 rfl rfl)
theorem dX9_whyNot_24 : decode cX9_whyNot 24 = .ok (.invokevirtual 282, 3) := dk_182 1 26 (dk_at dksX9_whyNot_1 0 rfl rfl)
theorem dX9_whyNot_27 : decode cX9_whyNot 27 = .ok (.if_icmp .ne 19, 3) := dk_160 0 19 (dk_at dksX9_whyNot_1 3 rfl rfl)
theorem dX9_whyNot_30 : decode cX9_whyNot 30 = .ok (.iload_n 2, 1) := dk_28 (dk_at dksX9_whyNot_1 6 rfl rfl)
theorem dX9_whyNot_31 : decode cX9_whyNot 31 = .ok (.iconst (-1), 1) := dk_2 (dk_at dksX9_whyNot_1 7 rfl rfl)
theorem dX9_whyNot_32 : decode cX9_whyNot 32 = .ok (.if_icmp .eq 16, 3) := dk_159 0 16 (dk_at dksX9_whyNot_1 8 rfl rfl)
theorem dX9_whyNot_35 : decode cX9_whyNot 35 = .ok (.aload_n 0, 1) := dk_42 (dk_at dksX9_whyNot_1 11 rfl rfl)
theorem dX9_whyNot_36 : decode cX9_whyNot 36 = .ok (.getfield 47, 3) := dk_180 0 47 (dk_at dksX9_whyNot_1 12 rfl rfl)
theorem dX9_whyNot_39 : decode cX9_whyNot 39 = .ok (.iload_n 2, 1) := dk_28 (dk_at dksX9_whyNot_1 15 rfl rfl)
theorem dX9_whyNot_40 : decode cX9_whyNot 40 = .ok (.iaload, 1) := dk_46 (dk_at dksX9_whyNot_1 16 rfl rfl)
theorem dX9_whyNot_41 : decode cX9_whyNot 41 = .ok (.iload 4, 2) := dk_21 4 (dk_at dksX9_whyNot_1 17 rfl rfl)
theorem dX9_whyNot_43 : decode cX9_whyNot 43 = .ok (.if_icmp .eq 5, 3) := dk_159 0 5 (dk_at dksX9_whyNot_1 19 rfl rfl)
theorem dX9_whyNot_46 : decode cX9_whyNot 46 = .ok (.iconst 1, 1) := dk_4 (dk_at dksX9_whyNot_1 22 rfl rfl)
theorem dX9_whyNot_47 : decode cX9_whyNot 47 = .ok (.ireturn, 1) := dk_172 (dk_at dksX9_whyNot_1 23 rfl rfl)
theorem dX9_whyNot_48 : decode cX9_whyNot 48 = .ok (.aload_n 0, 1) := dk_42 (dk_at dksX9_whyNot_2 0 rfl rfl)
theorem dX9_whyNot_49 : decode cX9_whyNot 49 = .ok (.iload_n 1, 1) := dk_27 (dk_at dksX9_whyNot_2 1 rfl rfl)
theorem dX9_whyNot_50 : decode cX9_whyNot 50 = .ok (.invokevirtual 315, 3) := dk_182 1 59 (dk_at dksX9_whyNot_2 2 rfl rfl)
theorem dX9_whyNot_53 : decode cX9_whyNot 53 = .ok (.iload_n 2, 1) := dk_28 (dk_at dksX9_whyNot_2 5 rfl rfl)
theorem dX9_whyNot_54 : decode cX9_whyNot 54 = .ok (.iconst (-1), 1) := dk_2 (dk_at dksX9_whyNot_2 6 rfl rfl)
theorem dX9_whyNot_55 : decode cX9_whyNot 55 = .ok (.if_icmp .ne 7, 3) := dk_160 0 7 (dk_at dksX9_whyNot_2 7 rfl rfl)
theorem dX9_whyNot_58 : decode cX9_whyNot 58 = .ok (.iconst 0, 1) := dk_3 (dk_at dksX9_whyNot_2 10 rfl rfl)
theorem dX9_whyNot_59 : decode cX9_whyNot 59 = .ok (.goto 8, 3) := dk_167 0 8 (dk_at dksX9_whyNot_2 11 rfl rfl)
theorem dX9_whyNot_62 : decode cX9_whyNot 62 = .ok (.aload_n 0, 1) := dk_42 (dk_at dksX9_whyNot_2 14 rfl rfl)
theorem dX9_whyNot_63 : decode cX9_whyNot 63 = .ok (.iload_n 2, 1) := dk_28 (dk_at dksX9_whyNot_2 15 rfl rfl)
theorem dX9_whyNot_64 : decode cX9_whyNot 64 = .ok (.invokevirtual 315, 3) := dk_182 1 59 (dk_at dksX9_whyNot_2 16 rfl rfl)
theorem dX9_whyNot_67 : decode cX9_whyNot 67 = .ok (.iadd, 1) := dk_96 (dk_at dksX9_whyNot_2 19 rfl rfl)
theorem dX9_whyNot_68 : decode cX9_whyNot 68 = .ok (.istore 5, 2) := dk_54 5 (dk_at dksX9_whyNot_2 20 rfl rfl)
theorem dX9_whyNot_70 : decode cX9_whyNot 70 = .ok (.aload_n 0, 1) := dk_42 (dk_at dksX9_whyNot_2 22 rfl rfl)
theorem dX9_whyNot_71 : decode cX9_whyNot 71 = .ok (.iload_n 3, 1) := dk_29 (dk_at dksX9_whyNot_2 23 rfl rfl)
theorem dX9_whyNot_72 : decode cX9_whyNot 72 = .ok (.iload 4, 2) := dk_21 4 (dk_at dksX9_whyNot_3 0 rfl rfl)
theorem dX9_whyNot_74 : decode cX9_whyNot 74 = .ok (.aload_n 0, 1) := dk_42 (dk_at dksX9_whyNot_3 2 rfl rfl)
theorem dX9_whyNot_75 : decode cX9_whyNot 75 = .ok (.iload_n 3, 1) := dk_29 (dk_at dksX9_whyNot_3 3 rfl rfl)
theorem dX9_whyNot_76 : decode cX9_whyNot 76 = .ok (.iconst 2, 1) := dk_5 (dk_at dksX9_whyNot_3 4 rfl rfl)
theorem dX9_whyNot_77 : decode cX9_whyNot 77 = .ok (.invokevirtual 282, 3) := dk_182 1 26 (dk_at dksX9_whyNot_3 5 rfl rfl)
theorem dX9_whyNot_80 : decode cX9_whyNot 80 = .ok (.if_icmp .ne 8, 3) := dk_160 0 8 (dk_at dksX9_whyNot_3 8 rfl rfl)
theorem dX9_whyNot_83 : decode cX9_whyNot 83 = .ok (.iload 5, 2) := dk_21 5 (dk_at dksX9_whyNot_3 11 rfl rfl)
theorem dX9_whyNot_85 : decode cX9_whyNot 85 = .ok (.goto 4, 3) := dk_167 0 4 (dk_at dksX9_whyNot_3 13 rfl rfl)
theorem dX9_whyNot_88 : decode cX9_whyNot 88 = .ok (.iconst 0, 1) := dk_3 (dk_at dksX9_whyNot_3 16 rfl rfl)
theorem dX9_whyNot_89 : decode cX9_whyNot 89 = .ok (.invokevirtual 324, 3) := dk_182 1 68 (dk_at dksX9_whyNot_3 17 rfl rfl)
theorem dX9_whyNot_92 : decode cX9_whyNot 92 = .ok (.ifCond .ne 5, 3) := dk_154 0 5 (dk_at dksX9_whyNot_3 20 rfl rfl)
theorem dX9_whyNot_95 : decode cX9_whyNot 95 = .ok (.iconst 2, 1) := dk_5 (dk_at dksX9_whyNot_3 23 rfl rfl)
theorem dX9_whyNot_96 : decode cX9_whyNot 96 = .ok (.ireturn, 1) := dk_172 (dk_at dksX9_whyNot_4 0 rfl rfl)
theorem dX9_whyNot_97 : decode cX9_whyNot 97 = .ok (.iload 5, 2) := dk_21 5 (dk_at dksX9_whyNot_4 1 rfl rfl)
theorem dX9_whyNot_99 : decode cX9_whyNot 99 = .ok (.aload_n 0, 1) := dk_42 (dk_at dksX9_whyNot_4 3 rfl rfl)
theorem dX9_whyNot_100 : decode cX9_whyNot 100 = .ok (.iload_n 3, 1) := dk_29 (dk_at dksX9_whyNot_4 4 rfl rfl)
theorem dX9_whyNot_101 : decode cX9_whyNot 101 = .ok (.iconst 5, 1) := dk_8 (dk_at dksX9_whyNot_4 5 rfl rfl)
theorem dX9_whyNot_102 : decode cX9_whyNot 102 = .ok (.invokevirtual 282, 3) := dk_182 1 26 (dk_at dksX9_whyNot_4 6 rfl rfl)
theorem dX9_whyNot_105 : decode cX9_whyNot 105 = .ok (.if_icmp .le 5, 3) := dk_164 0 5 (dk_at dksX9_whyNot_4 9 rfl rfl)
theorem dX9_whyNot_108 : decode cX9_whyNot 108 = .ok (.iconst 3, 1) := dk_6 (dk_at dksX9_whyNot_4 12 rfl rfl)
theorem dX9_whyNot_109 : decode cX9_whyNot 109 = .ok (.ireturn, 1) := dk_172 (dk_at dksX9_whyNot_4 13 rfl rfl)
theorem dX9_whyNot_110 : decode cX9_whyNot 110 = .ok (.aload_n 0, 1) := dk_42 (dk_at dksX9_whyNot_4 14 rfl rfl)
theorem dX9_whyNot_111 : decode cX9_whyNot 111 = .ok (.iload_n 1, 1) := dk_27 (dk_at dksX9_whyNot_4 15 rfl rfl)
theorem dX9_whyNot_112 : decode cX9_whyNot 112 = .ok (.iconst 4, 1) := dk_7 (dk_at dksX9_whyNot_4 16 rfl rfl)
theorem dX9_whyNot_113 : decode cX9_whyNot 113 = .ok (.invokevirtual 258, 3) := dk_182 1 2 (dk_at dksX9_whyNot_4 17 rfl rfl)
theorem dX9_whyNot_116 : decode cX9_whyNot 116 = .ok (.iconst 1, 1) := dk_4 (dk_at dksX9_whyNot_4 20 rfl rfl)
theorem dX9_whyNot_117 : decode cX9_whyNot 117 = .ok (.if_icmp .ne 22, 3) := dk_160 0 22 (dk_at dksX9_whyNot_4 21 rfl rfl)
theorem dX9_whyNot_120 : decode cX9_whyNot 120 = .ok (.iload_n 2, 1) := dk_28 (dk_at dksX9_whyNot_5 0 rfl rfl)
theorem dX9_whyNot_121 : decode cX9_whyNot 121 = .ok (.iconst (-1), 1) := dk_2 (dk_at dksX9_whyNot_5 1 rfl rfl)
theorem dX9_whyNot_122 : decode cX9_whyNot 122 = .ok (.if_icmp .eq 13, 3) := dk_159 0 13 (dk_at dksX9_whyNot_5 2 rfl rfl)
theorem dX9_whyNot_125 : decode cX9_whyNot 125 = .ok (.aload_n 0, 1) := dk_42 (dk_at dksX9_whyNot_5 5 rfl rfl)
theorem dX9_whyNot_126 : decode cX9_whyNot 126 = .ok (.iload_n 2, 1) := dk_28 (dk_at dksX9_whyNot_5 6 rfl rfl)
theorem dX9_whyNot_127 : decode cX9_whyNot 127 = .ok (.iconst 4, 1) := dk_7 (dk_at dksX9_whyNot_5 7 rfl rfl)
theorem dX9_whyNot_128 : decode cX9_whyNot 128 = .ok (.invokevirtual 258, 3) := dk_182 1 2 (dk_at dksX9_whyNot_5 8 rfl rfl)
theorem dX9_whyNot_131 : decode cX9_whyNot 131 = .ok (.iconst 1, 1) := dk_4 (dk_at dksX9_whyNot_5 11 rfl rfl)
theorem dX9_whyNot_132 : decode cX9_whyNot 132 = .ok (.if_icmp .ne 7, 3) := dk_160 0 7 (dk_at dksX9_whyNot_5 12 rfl rfl)
theorem dX9_whyNot_135 : decode cX9_whyNot 135 = .ok (.iconst 4, 1) := dk_7 (dk_at dksX9_whyNot_5 15 rfl rfl)
theorem dX9_whyNot_136 : decode cX9_whyNot 136 = .ok (.goto 4, 3) := dk_167 0 4 (dk_at dksX9_whyNot_5 16 rfl rfl)
theorem dX9_whyNot_139 : decode cX9_whyNot 139 = .ok (.iconst 0, 1) := dk_3 (dk_at dksX9_whyNot_5 19 rfl rfl)
theorem dX9_whyNot_140 : decode cX9_whyNot 140 = .ok (.ireturn, 1) := dk_172 (dk_at dksX9_whyNot_5 20 rfl rfl)
abbrev cX9_crosses : ByteArray := prog_21_method_81_code
def yX9_crosses : MethodName := ⟨RX9, "crosses", "(II)V"⟩
def dkwX9_crosses_1 : List UInt8 := [182, 1, 26, 167, 0, 9, 42, 28, 3, 182, 1, 26, 79, 177]
abbrev dktX9_crosses_1 : List UInt8 := dkwX9_crosses_1 ++ []
def dkwX9_crosses_0 : List UInt8 := [42, 180, 0, 47, 27, 42, 180, 0, 47, 27, 46, 42, 28, 3, 182, 1, 26, 160, 0, 12, 42, 28, 4]
abbrev dktX9_crosses_0 : List UInt8 := dkwX9_crosses_0 ++ dktX9_crosses_1
theorem dksX9_crosses_0 : cX9_crosses.data.toList.drop 0 = dktX9_crosses_0 := by decide +kernel
theorem dksX9_crosses_1 : cX9_crosses.data.toList.drop 23 = dktX9_crosses_1 := dk_seg dksX9_crosses_0 23 rfl rfl
theorem dX9_crosses_0 : decode cX9_crosses 0 = .ok (.aload_n 0, 1) := dk_42 (dk_at dksX9_crosses_0 0 rfl rfl)
theorem dX9_crosses_1 : decode cX9_crosses 1 = .ok (.getfield 47, 3) := dk_180 0 47 (dk_at dksX9_crosses_0 1 rfl rfl)
theorem dX9_crosses_4 : decode cX9_crosses 4 = .ok (.iload_n 1, 1) := dk_27 (dk_at dksX9_crosses_0 4 rfl rfl)
theorem dX9_crosses_5 : decode cX9_crosses 5 = .ok (.aload_n 0, 1) := dk_42 (dk_at dksX9_crosses_0 5 rfl rfl)
theorem dX9_crosses_6 : decode cX9_crosses 6 = .ok (.getfield 47, 3) := dk_180 0 47 (dk_at dksX9_crosses_0 6 rfl rfl)
theorem dX9_crosses_9 : decode cX9_crosses 9 = .ok (.iload_n 1, 1) := dk_27 (dk_at dksX9_crosses_0 9 rfl rfl)
theorem dX9_crosses_10 : decode cX9_crosses 10 = .ok (.iaload, 1) := dk_46 (dk_at dksX9_crosses_0 10 rfl rfl)
theorem dX9_crosses_11 : decode cX9_crosses 11 = .ok (.aload_n 0, 1) := dk_42 (dk_at dksX9_crosses_0 11 rfl rfl)
theorem dX9_crosses_12 : decode cX9_crosses 12 = .ok (.iload_n 2, 1) := dk_28 (dk_at dksX9_crosses_0 12 rfl rfl)
theorem dX9_crosses_13 : decode cX9_crosses 13 = .ok (.iconst 0, 1) := dk_3 (dk_at dksX9_crosses_0 13 rfl rfl)
theorem dX9_crosses_14 : decode cX9_crosses 14 = .ok (.invokevirtual 282, 3) := dk_182 1 26 (dk_at dksX9_crosses_0 14 rfl rfl)
theorem dX9_crosses_17 : decode cX9_crosses 17 = .ok (.if_icmp .ne 12, 3) := dk_160 0 12 (dk_at dksX9_crosses_0 17 rfl rfl)
theorem dX9_crosses_20 : decode cX9_crosses 20 = .ok (.aload_n 0, 1) := dk_42 (dk_at dksX9_crosses_0 20 rfl rfl)
theorem dX9_crosses_21 : decode cX9_crosses 21 = .ok (.iload_n 2, 1) := dk_28 (dk_at dksX9_crosses_0 21 rfl rfl)
theorem dX9_crosses_22 : decode cX9_crosses 22 = .ok (.iconst 1, 1) := dk_4 (dk_at dksX9_crosses_0 22 rfl rfl)
theorem dX9_crosses_23 : decode cX9_crosses 23 = .ok (.invokevirtual 282, 3) := dk_182 1 26 (dk_at dksX9_crosses_1 0 rfl rfl)
theorem dX9_crosses_26 : decode cX9_crosses 26 = .ok (.goto 9, 3) := dk_167 0 9 (dk_at dksX9_crosses_1 3 rfl rfl)
theorem dX9_crosses_29 : decode cX9_crosses 29 = .ok (.aload_n 0, 1) := dk_42 (dk_at dksX9_crosses_1 6 rfl rfl)
theorem dX9_crosses_30 : decode cX9_crosses 30 = .ok (.iload_n 2, 1) := dk_28 (dk_at dksX9_crosses_1 7 rfl rfl)
theorem dX9_crosses_31 : decode cX9_crosses 31 = .ok (.iconst 0, 1) := dk_3 (dk_at dksX9_crosses_1 8 rfl rfl)
theorem dX9_crosses_32 : decode cX9_crosses 32 = .ok (.invokevirtual 282, 3) := dk_182 1 26 (dk_at dksX9_crosses_1 9 rfl rfl)
theorem dX9_crosses_35 : decode cX9_crosses 35 = .ok (.iastore, 1) := dk_79 (dk_at dksX9_crosses_1 12 rfl rfl)
theorem dX9_crosses_36 : decode cX9_crosses 36 = .ok (.return_, 1) := dk_177 (dk_at dksX9_crosses_1 13 rfl rfl)
abbrev cX9_doneOr : ByteArray := prog_21_method_85_code
def yX9_doneOr : MethodName := ⟨RX9, "doneOr", "(Z)Z"⟩
def dkwX9_doneOr_0 : List UInt8 := [27, 153, 0, 7, 42, 182, 1, 79, 42, 27, 153, 0, 7, 3, 167, 0, 5, 16, 7, 182, 0, 110, 172]
abbrev dktX9_doneOr_0 : List UInt8 := dkwX9_doneOr_0 ++ []
theorem dksX9_doneOr_0 : cX9_doneOr.data.toList.drop 0 = dktX9_doneOr_0 := by decide +kernel
theorem dX9_doneOr_0 : decode cX9_doneOr 0 = .ok (.iload_n 1, 1) := dk_27 (dk_at dksX9_doneOr_0 0 rfl rfl)
theorem dX9_doneOr_1 : decode cX9_doneOr 1 = .ok (.ifCond .eq 7, 3) := dk_153 0 7 (dk_at dksX9_doneOr_0 1 rfl rfl)
theorem dX9_doneOr_4 : decode cX9_doneOr 4 = .ok (.aload_n 0, 1) := dk_42 (dk_at dksX9_doneOr_0 4 rfl rfl)
theorem dX9_doneOr_5 : decode cX9_doneOr 5 = .ok (.invokevirtual 335, 3) := dk_182 1 79 (dk_at dksX9_doneOr_0 5 rfl rfl)
theorem dX9_doneOr_8 : decode cX9_doneOr 8 = .ok (.aload_n 0, 1) := dk_42 (dk_at dksX9_doneOr_0 8 rfl rfl)
theorem dX9_doneOr_9 : decode cX9_doneOr 9 = .ok (.iload_n 1, 1) := dk_27 (dk_at dksX9_doneOr_0 9 rfl rfl)
theorem dX9_doneOr_10 : decode cX9_doneOr 10 = .ok (.ifCond .eq 7, 3) := dk_153 0 7 (dk_at dksX9_doneOr_0 10 rfl rfl)
theorem dX9_doneOr_13 : decode cX9_doneOr 13 = .ok (.iconst 0, 1) := dk_3 (dk_at dksX9_doneOr_0 13 rfl rfl)
theorem dX9_doneOr_14 : decode cX9_doneOr 14 = .ok (.goto 5, 3) := dk_167 0 5 (dk_at dksX9_doneOr_0 14 rfl rfl)
theorem dX9_doneOr_17 : decode cX9_doneOr 17 = .ok (.bipush 7, 2) := dk_16 7 (dk_at dksX9_doneOr_0 17 rfl rfl)
theorem dX9_doneOr_19 : decode cX9_doneOr 19 = .ok (.invokevirtual 110, 3) := dk_182 0 110 (dk_at dksX9_doneOr_0 19 rfl rfl)
theorem dX9_doneOr_22 : decode cX9_doneOr 22 = .ok (.ireturn, 1) := dk_172 (dk_at dksX9_doneOr_0 22 rfl rfl)
abbrev cX9_staysSo : ByteArray := prog_21_method_66_code
def yX9_staysSo : MethodName := ⟨RX9, "staysSo", "()V"⟩
def dkwX9_staysSo_2 : List UInt8 := [180, 0, 50, 27, 46, 79, 132, 1, 1, 167, 255, 233, 177]
abbrev dktX9_staysSo_2 : List UInt8 := dkwX9_staysSo_2 ++ []
def dkwX9_staysSo_1 : List UInt8 := [132, 1, 1, 167, 255, 233, 3, 60, 27, 5, 162, 0, 24, 42, 180, 0, 7, 16, 114, 27, 96, 42]
abbrev dktX9_staysSo_1 : List UInt8 := dkwX9_staysSo_1 ++ dktX9_staysSo_2
def dkwX9_staysSo_0 : List UInt8 := [3, 60, 27, 7, 162, 0, 24, 42, 180, 0, 7, 16, 110, 27, 96, 42, 180, 0, 47, 27, 46, 79]
abbrev dktX9_staysSo_0 : List UInt8 := dkwX9_staysSo_0 ++ dktX9_staysSo_1
theorem dksX9_staysSo_0 : cX9_staysSo.data.toList.drop 0 = dktX9_staysSo_0 := by decide +kernel
theorem dksX9_staysSo_1 : cX9_staysSo.data.toList.drop 22 = dktX9_staysSo_1 := dk_seg dksX9_staysSo_0 22 rfl rfl
theorem dksX9_staysSo_2 : cX9_staysSo.data.toList.drop 44 = dktX9_staysSo_2 := dk_seg dksX9_staysSo_1 22 rfl rfl
theorem dX9_staysSo_0 : decode cX9_staysSo 0 = .ok (.iconst 0, 1) := dk_3 (dk_at dksX9_staysSo_0 0 rfl rfl)
theorem dX9_staysSo_1 : decode cX9_staysSo 1 = .ok (.istore_n 1, 1) := dk_60 (dk_at dksX9_staysSo_0 1 rfl rfl)
theorem dX9_staysSo_2 : decode cX9_staysSo 2 = .ok (.iload_n 1, 1) := dk_27 (dk_at dksX9_staysSo_0 2 rfl rfl)
theorem dX9_staysSo_3 : decode cX9_staysSo 3 = .ok (.iconst 4, 1) := dk_7 (dk_at dksX9_staysSo_0 3 rfl rfl)
theorem dX9_staysSo_4 : decode cX9_staysSo 4 = .ok (.if_icmp .ge 24, 3) := dk_162 0 24 (dk_at dksX9_staysSo_0 4 rfl rfl)
theorem dX9_staysSo_7 : decode cX9_staysSo 7 = .ok (.aload_n 0, 1) := dk_42 (dk_at dksX9_staysSo_0 7 rfl rfl)
theorem dX9_staysSo_8 : decode cX9_staysSo 8 = .ok (.getfield 7, 3) := dk_180 0 7 (dk_at dksX9_staysSo_0 8 rfl rfl)
theorem dX9_staysSo_11 : decode cX9_staysSo 11 = .ok (.bipush 110, 2) := dk_16 110 (dk_at dksX9_staysSo_0 11 rfl rfl)
theorem dX9_staysSo_13 : decode cX9_staysSo 13 = .ok (.iload_n 1, 1) := dk_27 (dk_at dksX9_staysSo_0 13 rfl rfl)
theorem dX9_staysSo_14 : decode cX9_staysSo 14 = .ok (.iadd, 1) := dk_96 (dk_at dksX9_staysSo_0 14 rfl rfl)
theorem dX9_staysSo_15 : decode cX9_staysSo 15 = .ok (.aload_n 0, 1) := dk_42 (dk_at dksX9_staysSo_0 15 rfl rfl)
theorem dX9_staysSo_16 : decode cX9_staysSo 16 = .ok (.getfield 47, 3) := dk_180 0 47 (dk_at dksX9_staysSo_0 16 rfl rfl)
theorem dX9_staysSo_19 : decode cX9_staysSo 19 = .ok (.iload_n 1, 1) := dk_27 (dk_at dksX9_staysSo_0 19 rfl rfl)
theorem dX9_staysSo_20 : decode cX9_staysSo 20 = .ok (.iaload, 1) := dk_46 (dk_at dksX9_staysSo_0 20 rfl rfl)
theorem dX9_staysSo_21 : decode cX9_staysSo 21 = .ok (.iastore, 1) := dk_79 (dk_at dksX9_staysSo_0 21 rfl rfl)
theorem dX9_staysSo_22 : decode cX9_staysSo 22 = .ok (.iinc 1 1, 3) := dk_132 1 1 (dk_at dksX9_staysSo_1 0 rfl rfl)
theorem dX9_staysSo_25 : decode cX9_staysSo 25 = .ok (.goto (-23), 3) := dk_167 255 233 (dk_at dksX9_staysSo_1 3 rfl rfl)
theorem dX9_staysSo_28 : decode cX9_staysSo 28 = .ok (.iconst 0, 1) := dk_3 (dk_at dksX9_staysSo_1 6 rfl rfl)
theorem dX9_staysSo_29 : decode cX9_staysSo 29 = .ok (.istore_n 1, 1) := dk_60 (dk_at dksX9_staysSo_1 7 rfl rfl)
theorem dX9_staysSo_30 : decode cX9_staysSo 30 = .ok (.iload_n 1, 1) := dk_27 (dk_at dksX9_staysSo_1 8 rfl rfl)
theorem dX9_staysSo_31 : decode cX9_staysSo 31 = .ok (.iconst 2, 1) := dk_5 (dk_at dksX9_staysSo_1 9 rfl rfl)
theorem dX9_staysSo_32 : decode cX9_staysSo 32 = .ok (.if_icmp .ge 24, 3) := dk_162 0 24 (dk_at dksX9_staysSo_1 10 rfl rfl)
theorem dX9_staysSo_35 : decode cX9_staysSo 35 = .ok (.aload_n 0, 1) := dk_42 (dk_at dksX9_staysSo_1 13 rfl rfl)
theorem dX9_staysSo_36 : decode cX9_staysSo 36 = .ok (.getfield 7, 3) := dk_180 0 7 (dk_at dksX9_staysSo_1 14 rfl rfl)
theorem dX9_staysSo_39 : decode cX9_staysSo 39 = .ok (.bipush 114, 2) := dk_16 114 (dk_at dksX9_staysSo_1 17 rfl rfl)
theorem dX9_staysSo_41 : decode cX9_staysSo 41 = .ok (.iload_n 1, 1) := dk_27 (dk_at dksX9_staysSo_1 19 rfl rfl)
theorem dX9_staysSo_42 : decode cX9_staysSo 42 = .ok (.iadd, 1) := dk_96 (dk_at dksX9_staysSo_1 20 rfl rfl)
theorem dX9_staysSo_43 : decode cX9_staysSo 43 = .ok (.aload_n 0, 1) := dk_42 (dk_at dksX9_staysSo_1 21 rfl rfl)
theorem dX9_staysSo_44 : decode cX9_staysSo 44 = .ok (.getfield 50, 3) := dk_180 0 50 (dk_at dksX9_staysSo_2 0 rfl rfl)
theorem dX9_staysSo_47 : decode cX9_staysSo 47 = .ok (.iload_n 1, 1) := dk_27 (dk_at dksX9_staysSo_2 3 rfl rfl)
theorem dX9_staysSo_48 : decode cX9_staysSo 48 = .ok (.iaload, 1) := dk_46 (dk_at dksX9_staysSo_2 4 rfl rfl)
theorem dX9_staysSo_49 : decode cX9_staysSo 49 = .ok (.iastore, 1) := dk_79 (dk_at dksX9_staysSo_2 5 rfl rfl)
theorem dX9_staysSo_50 : decode cX9_staysSo 50 = .ok (.iinc 1 1, 3) := dk_132 1 1 (dk_at dksX9_staysSo_2 6 rfl rfl)
theorem dX9_staysSo_53 : decode cX9_staysSo 53 = .ok (.goto (-23), 3) := dk_167 255 233 (dk_at dksX9_staysSo_2 9 rfl rfl)
theorem dX9_staysSo_56 : decode cX9_staysSo 56 = .ok (.return_, 1) := dk_177 (dk_at dksX9_staysSo_2 12 rfl rfl)
abbrev cX9_both : ByteArray := prog_21_method_88_code
def yX9_both : MethodName := ⟨RX9, "both", "(III)Z"⟩
def dkwX9_both_1 : List UInt8 := [182, 1, 29, 42, 42, 27, 28, 29, 182, 1, 82, 182, 1, 85, 172]
abbrev dktX9_both_1 : List UInt8 := dkwX9_both_1 ++ []
def dkwX9_both_0 : List UInt8 := [42, 27, 28, 182, 1, 89, 153, 0, 11, 42, 29, 182, 1, 35, 154, 0, 9, 42, 4, 182, 0, 110, 172, 42]
abbrev dktX9_both_0 : List UInt8 := dkwX9_both_0 ++ dktX9_both_1
theorem dksX9_both_0 : cX9_both.data.toList.drop 0 = dktX9_both_0 := by decide +kernel
theorem dksX9_both_1 : cX9_both.data.toList.drop 24 = dktX9_both_1 := dk_seg dksX9_both_0 24 rfl rfl
theorem dX9_both_0 : decode cX9_both 0 = .ok (.aload_n 0, 1) := dk_42 (dk_at dksX9_both_0 0 rfl rfl)
theorem dX9_both_1 : decode cX9_both 1 = .ok (.iload_n 1, 1) := dk_27 (dk_at dksX9_both_0 1 rfl rfl)
theorem dX9_both_2 : decode cX9_both 2 = .ok (.iload_n 2, 1) := dk_28 (dk_at dksX9_both_0 2 rfl rfl)
theorem dX9_both_3 : decode cX9_both 3 = .ok (.invokevirtual 345, 3) := dk_182 1 89 (dk_at dksX9_both_0 3 rfl rfl)
theorem dX9_both_6 : decode cX9_both 6 = .ok (.ifCond .eq 11, 3) := dk_153 0 11 (dk_at dksX9_both_0 6 rfl rfl)
theorem dX9_both_9 : decode cX9_both 9 = .ok (.aload_n 0, 1) := dk_42 (dk_at dksX9_both_0 9 rfl rfl)
theorem dX9_both_10 : decode cX9_both 10 = .ok (.iload_n 3, 1) := dk_29 (dk_at dksX9_both_0 10 rfl rfl)
theorem dX9_both_11 : decode cX9_both 11 = .ok (.invokevirtual 291, 3) := dk_182 1 35 (dk_at dksX9_both_0 11 rfl rfl)
theorem dX9_both_14 : decode cX9_both 14 = .ok (.ifCond .ne 9, 3) := dk_154 0 9 (dk_at dksX9_both_0 14 rfl rfl)
theorem dX9_both_17 : decode cX9_both 17 = .ok (.aload_n 0, 1) := dk_42 (dk_at dksX9_both_0 17 rfl rfl)
theorem dX9_both_18 : decode cX9_both 18 = .ok (.iconst 1, 1) := dk_4 (dk_at dksX9_both_0 18 rfl rfl)
theorem dX9_both_19 : decode cX9_both 19 = .ok (.invokevirtual 110, 3) := dk_182 0 110 (dk_at dksX9_both_0 19 rfl rfl)
theorem dX9_both_22 : decode cX9_both 22 = .ok (.ireturn, 1) := dk_172 (dk_at dksX9_both_0 22 rfl rfl)
theorem dX9_both_23 : decode cX9_both 23 = .ok (.aload_n 0, 1) := dk_42 (dk_at dksX9_both_0 23 rfl rfl)
theorem dX9_both_24 : decode cX9_both 24 = .ok (.invokevirtual 285, 3) := dk_182 1 29 (dk_at dksX9_both_1 0 rfl rfl)
theorem dX9_both_27 : decode cX9_both 27 = .ok (.aload_n 0, 1) := dk_42 (dk_at dksX9_both_1 3 rfl rfl)
theorem dX9_both_28 : decode cX9_both 28 = .ok (.aload_n 0, 1) := dk_42 (dk_at dksX9_both_1 4 rfl rfl)
theorem dX9_both_29 : decode cX9_both 29 = .ok (.iload_n 1, 1) := dk_27 (dk_at dksX9_both_1 5 rfl rfl)
theorem dX9_both_30 : decode cX9_both 30 = .ok (.iload_n 2, 1) := dk_28 (dk_at dksX9_both_1 6 rfl rfl)
theorem dX9_both_31 : decode cX9_both 31 = .ok (.iload_n 3, 1) := dk_29 (dk_at dksX9_both_1 7 rfl rfl)
theorem dX9_both_32 : decode cX9_both 32 = .ok (.invokevirtual 338, 3) := dk_182 1 82 (dk_at dksX9_both_1 8 rfl rfl)
theorem dX9_both_35 : decode cX9_both 35 = .ok (.invokevirtual 341, 3) := dk_182 1 85 (dk_at dksX9_both_1 11 rfl rfl)
theorem dX9_both_38 : decode cX9_both 38 = .ok (.ireturn, 1) := dk_172 (dk_at dksX9_both_1 14 rfl rfl)
abbrev cX9_areTwo : ByteArray := prog_21_method_87_code
def yX9_areTwo : MethodName := ⟨RX9, "areTwo", "(II)Z"⟩
def dkwX9_areTwo_1 : List UInt8 := [167, 0, 4, 3, 172]
abbrev dktX9_areTwo_1 : List UInt8 := dkwX9_areTwo_1 ++ []
def dkwX9_areTwo_0 : List UInt8 := [42, 27, 182, 1, 41, 153, 0, 20, 42, 28, 182, 1, 41, 153, 0, 12, 27, 28, 159, 0, 7, 4]
abbrev dktX9_areTwo_0 : List UInt8 := dkwX9_areTwo_0 ++ dktX9_areTwo_1
theorem dksX9_areTwo_0 : cX9_areTwo.data.toList.drop 0 = dktX9_areTwo_0 := by decide +kernel
theorem dksX9_areTwo_1 : cX9_areTwo.data.toList.drop 22 = dktX9_areTwo_1 := dk_seg dksX9_areTwo_0 22 rfl rfl
theorem dX9_areTwo_0 : decode cX9_areTwo 0 = .ok (.aload_n 0, 1) := dk_42 (dk_at dksX9_areTwo_0 0 rfl rfl)
theorem dX9_areTwo_1 : decode cX9_areTwo 1 = .ok (.iload_n 1, 1) := dk_27 (dk_at dksX9_areTwo_0 1 rfl rfl)
theorem dX9_areTwo_2 : decode cX9_areTwo 2 = .ok (.invokevirtual 297, 3) := dk_182 1 41 (dk_at dksX9_areTwo_0 2 rfl rfl)
theorem dX9_areTwo_5 : decode cX9_areTwo 5 = .ok (.ifCond .eq 20, 3) := dk_153 0 20 (dk_at dksX9_areTwo_0 5 rfl rfl)
theorem dX9_areTwo_8 : decode cX9_areTwo 8 = .ok (.aload_n 0, 1) := dk_42 (dk_at dksX9_areTwo_0 8 rfl rfl)
theorem dX9_areTwo_9 : decode cX9_areTwo 9 = .ok (.iload_n 2, 1) := dk_28 (dk_at dksX9_areTwo_0 9 rfl rfl)
theorem dX9_areTwo_10 : decode cX9_areTwo 10 = .ok (.invokevirtual 297, 3) := dk_182 1 41 (dk_at dksX9_areTwo_0 10 rfl rfl)
theorem dX9_areTwo_13 : decode cX9_areTwo 13 = .ok (.ifCond .eq 12, 3) := dk_153 0 12 (dk_at dksX9_areTwo_0 13 rfl rfl)
theorem dX9_areTwo_16 : decode cX9_areTwo 16 = .ok (.iload_n 1, 1) := dk_27 (dk_at dksX9_areTwo_0 16 rfl rfl)
theorem dX9_areTwo_17 : decode cX9_areTwo 17 = .ok (.iload_n 2, 1) := dk_28 (dk_at dksX9_areTwo_0 17 rfl rfl)
theorem dX9_areTwo_18 : decode cX9_areTwo 18 = .ok (.if_icmp .eq 7, 3) := dk_159 0 7 (dk_at dksX9_areTwo_0 18 rfl rfl)
theorem dX9_areTwo_21 : decode cX9_areTwo 21 = .ok (.iconst 1, 1) := dk_4 (dk_at dksX9_areTwo_0 21 rfl rfl)
theorem dX9_areTwo_22 : decode cX9_areTwo 22 = .ok (.goto 4, 3) := dk_167 0 4 (dk_at dksX9_areTwo_1 0 rfl rfl)
theorem dX9_areTwo_25 : decode cX9_areTwo 25 = .ok (.iconst 0, 1) := dk_3 (dk_at dksX9_areTwo_1 3 rfl rfl)
theorem dX9_areTwo_26 : decode cX9_areTwo 26 = .ok (.ireturn, 1) := dk_172 (dk_at dksX9_areTwo_1 4 rfl rfl)
abbrev cX9_why : ByteArray := prog_21_method_89_code
def yX9_why : MethodName := ⟨RX9, "why", "(III)I"⟩
def dkwX9_why_2 : List UInt8 := [182, 0, 107, 172]
abbrev dktX9_why_2 : List UInt8 := dkwX9_why_2 ++ []
def dkwX9_why_1 : List UInt8 := [182, 1, 35, 154, 0, 9, 42, 4, 182, 0, 103, 172, 42, 182, 1, 29, 42, 42, 27, 28, 29, 182, 1, 71]
abbrev dktX9_why_1 : List UInt8 := dkwX9_why_1 ++ dktX9_why_2
def dkwX9_why_0 : List UInt8 := [42, 27, 182, 1, 41, 153, 0, 25, 28, 2, 159, 0, 12, 42, 27, 28, 182, 1, 89, 153, 0, 11, 42, 29]
abbrev dktX9_why_0 : List UInt8 := dkwX9_why_0 ++ dktX9_why_1
theorem dksX9_why_0 : cX9_why.data.toList.drop 0 = dktX9_why_0 := by decide +kernel
theorem dksX9_why_1 : cX9_why.data.toList.drop 24 = dktX9_why_1 := dk_seg dksX9_why_0 24 rfl rfl
theorem dksX9_why_2 : cX9_why.data.toList.drop 48 = dktX9_why_2 := dk_seg dksX9_why_1 24 rfl rfl
theorem dX9_why_0 : decode cX9_why 0 = .ok (.aload_n 0, 1) := dk_42 (dk_at dksX9_why_0 0 rfl rfl)
theorem dX9_why_1 : decode cX9_why 1 = .ok (.iload_n 1, 1) := dk_27 (dk_at dksX9_why_0 1 rfl rfl)
theorem dX9_why_2 : decode cX9_why 2 = .ok (.invokevirtual 297, 3) := dk_182 1 41 (dk_at dksX9_why_0 2 rfl rfl)
theorem dX9_why_5 : decode cX9_why 5 = .ok (.ifCond .eq 25, 3) := dk_153 0 25 (dk_at dksX9_why_0 5 rfl rfl)
theorem dX9_why_8 : decode cX9_why 8 = .ok (.iload_n 2, 1) := dk_28 (dk_at dksX9_why_0 8 rfl rfl)
theorem dX9_why_9 : decode cX9_why 9 = .ok (.iconst (-1), 1) := dk_2 (dk_at dksX9_why_0 9 rfl rfl)
theorem dX9_why_10 : decode cX9_why 10 = .ok (.if_icmp .eq 12, 3) := dk_159 0 12 (dk_at dksX9_why_0 10 rfl rfl)
theorem dX9_why_13 : decode cX9_why 13 = .ok (.aload_n 0, 1) := dk_42 (dk_at dksX9_why_0 13 rfl rfl)
theorem dX9_why_14 : decode cX9_why 14 = .ok (.iload_n 1, 1) := dk_27 (dk_at dksX9_why_0 14 rfl rfl)
theorem dX9_why_15 : decode cX9_why 15 = .ok (.iload_n 2, 1) := dk_28 (dk_at dksX9_why_0 15 rfl rfl)
theorem dX9_why_16 : decode cX9_why 16 = .ok (.invokevirtual 345, 3) := dk_182 1 89 (dk_at dksX9_why_0 16 rfl rfl)
theorem dX9_why_19 : decode cX9_why 19 = .ok (.ifCond .eq 11, 3) := dk_153 0 11 (dk_at dksX9_why_0 19 rfl rfl)
theorem dX9_why_22 : decode cX9_why 22 = .ok (.aload_n 0, 1) := dk_42 (dk_at dksX9_why_0 22 rfl rfl)
theorem dX9_why_23 : decode cX9_why 23 = .ok (.iload_n 3, 1) := dk_29 (dk_at dksX9_why_0 23 rfl rfl)
theorem dX9_why_24 : decode cX9_why 24 = .ok (.invokevirtual 291, 3) := dk_182 1 35 (dk_at dksX9_why_1 0 rfl rfl)
theorem dX9_why_27 : decode cX9_why 27 = .ok (.ifCond .ne 9, 3) := dk_154 0 9 (dk_at dksX9_why_1 3 rfl rfl)
theorem dX9_why_30 : decode cX9_why 30 = .ok (.aload_n 0, 1) := dk_42 (dk_at dksX9_why_1 6 rfl rfl)
theorem dX9_why_31 : decode cX9_why 31 = .ok (.iconst 1, 1) := dk_4 (dk_at dksX9_why_1 7 rfl rfl)
theorem dX9_why_32 : decode cX9_why 32 = .ok (.invokevirtual 103, 3) := dk_182 0 103 (dk_at dksX9_why_1 8 rfl rfl)
theorem dX9_why_35 : decode cX9_why 35 = .ok (.ireturn, 1) := dk_172 (dk_at dksX9_why_1 11 rfl rfl)
theorem dX9_why_36 : decode cX9_why 36 = .ok (.aload_n 0, 1) := dk_42 (dk_at dksX9_why_1 12 rfl rfl)
theorem dX9_why_37 : decode cX9_why 37 = .ok (.invokevirtual 285, 3) := dk_182 1 29 (dk_at dksX9_why_1 13 rfl rfl)
theorem dX9_why_40 : decode cX9_why 40 = .ok (.aload_n 0, 1) := dk_42 (dk_at dksX9_why_1 16 rfl rfl)
theorem dX9_why_41 : decode cX9_why 41 = .ok (.aload_n 0, 1) := dk_42 (dk_at dksX9_why_1 17 rfl rfl)
theorem dX9_why_42 : decode cX9_why 42 = .ok (.iload_n 1, 1) := dk_27 (dk_at dksX9_why_1 18 rfl rfl)
theorem dX9_why_43 : decode cX9_why 43 = .ok (.iload_n 2, 1) := dk_28 (dk_at dksX9_why_1 19 rfl rfl)
theorem dX9_why_44 : decode cX9_why 44 = .ok (.iload_n 3, 1) := dk_29 (dk_at dksX9_why_1 20 rfl rfl)
theorem dX9_why_45 : decode cX9_why 45 = .ok (.invokevirtual 327, 3) := dk_182 1 71 (dk_at dksX9_why_1 21 rfl rfl)
theorem dX9_why_48 : decode cX9_why 48 = .ok (.invokevirtual 107, 3) := dk_182 0 107 (dk_at dksX9_why_2 0 rfl rfl)
theorem dX9_why_51 : decode cX9_why 51 = .ok (.ireturn, 1) := dk_172 (dk_at dksX9_why_2 3 rfl rfl)
abbrev cX9_lift : ByteArray := prog_21_method_90_code
def yX9_lift : MethodName := ⟨RX9, "lift", "(II)Z"⟩
def dkwX9_lift_1 : List UInt8 := [182, 1, 29, 42, 42, 27, 28, 182, 1, 92, 182, 1, 85, 172]
abbrev dktX9_lift_1 : List UInt8 := dkwX9_lift_1 ++ []
def dkwX9_lift_0 : List UInt8 := [42, 27, 182, 1, 41, 153, 0, 11, 42, 28, 182, 1, 65, 154, 0, 9, 42, 4, 182, 0, 110, 172, 42]
abbrev dktX9_lift_0 : List UInt8 := dkwX9_lift_0 ++ dktX9_lift_1
theorem dksX9_lift_0 : cX9_lift.data.toList.drop 0 = dktX9_lift_0 := by decide +kernel
theorem dksX9_lift_1 : cX9_lift.data.toList.drop 23 = dktX9_lift_1 := dk_seg dksX9_lift_0 23 rfl rfl
theorem dX9_lift_0 : decode cX9_lift 0 = .ok (.aload_n 0, 1) := dk_42 (dk_at dksX9_lift_0 0 rfl rfl)
theorem dX9_lift_1 : decode cX9_lift 1 = .ok (.iload_n 1, 1) := dk_27 (dk_at dksX9_lift_0 1 rfl rfl)
theorem dX9_lift_2 : decode cX9_lift 2 = .ok (.invokevirtual 297, 3) := dk_182 1 41 (dk_at dksX9_lift_0 2 rfl rfl)
theorem dX9_lift_5 : decode cX9_lift 5 = .ok (.ifCond .eq 11, 3) := dk_153 0 11 (dk_at dksX9_lift_0 5 rfl rfl)
theorem dX9_lift_8 : decode cX9_lift 8 = .ok (.aload_n 0, 1) := dk_42 (dk_at dksX9_lift_0 8 rfl rfl)
theorem dX9_lift_9 : decode cX9_lift 9 = .ok (.iload_n 2, 1) := dk_28 (dk_at dksX9_lift_0 9 rfl rfl)
theorem dX9_lift_10 : decode cX9_lift 10 = .ok (.invokevirtual 321, 3) := dk_182 1 65 (dk_at dksX9_lift_0 10 rfl rfl)
theorem dX9_lift_13 : decode cX9_lift 13 = .ok (.ifCond .ne 9, 3) := dk_154 0 9 (dk_at dksX9_lift_0 13 rfl rfl)
theorem dX9_lift_16 : decode cX9_lift 16 = .ok (.aload_n 0, 1) := dk_42 (dk_at dksX9_lift_0 16 rfl rfl)
theorem dX9_lift_17 : decode cX9_lift 17 = .ok (.iconst 1, 1) := dk_4 (dk_at dksX9_lift_0 17 rfl rfl)
theorem dX9_lift_18 : decode cX9_lift 18 = .ok (.invokevirtual 110, 3) := dk_182 0 110 (dk_at dksX9_lift_0 18 rfl rfl)
theorem dX9_lift_21 : decode cX9_lift 21 = .ok (.ireturn, 1) := dk_172 (dk_at dksX9_lift_0 21 rfl rfl)
theorem dX9_lift_22 : decode cX9_lift 22 = .ok (.aload_n 0, 1) := dk_42 (dk_at dksX9_lift_0 22 rfl rfl)
theorem dX9_lift_23 : decode cX9_lift 23 = .ok (.invokevirtual 285, 3) := dk_182 1 29 (dk_at dksX9_lift_1 0 rfl rfl)
theorem dX9_lift_26 : decode cX9_lift 26 = .ok (.aload_n 0, 1) := dk_42 (dk_at dksX9_lift_1 3 rfl rfl)
theorem dX9_lift_27 : decode cX9_lift 27 = .ok (.aload_n 0, 1) := dk_42 (dk_at dksX9_lift_1 4 rfl rfl)
theorem dX9_lift_28 : decode cX9_lift 28 = .ok (.iload_n 1, 1) := dk_27 (dk_at dksX9_lift_1 5 rfl rfl)
theorem dX9_lift_29 : decode cX9_lift 29 = .ok (.iload_n 2, 1) := dk_28 (dk_at dksX9_lift_1 6 rfl rfl)
theorem dX9_lift_30 : decode cX9_lift 30 = .ok (.invokevirtual 348, 3) := dk_182 1 92 (dk_at dksX9_lift_1 7 rfl rfl)
theorem dX9_lift_33 : decode cX9_lift 33 = .ok (.invokevirtual 341, 3) := dk_182 1 85 (dk_at dksX9_lift_1 10 rfl rfl)
theorem dX9_lift_36 : decode cX9_lift 36 = .ok (.ireturn, 1) := dk_172 (dk_at dksX9_lift_1 13 rfl rfl)
abbrev cX9_lifts : ByteArray := prog_21_method_83_code
def yX9_lifts : MethodName := ⟨RX9, "lifts", "(II)Z"⟩
def dkwX9_lifts_2 : List UInt8 := [180, 0, 50, 28, 16, 6, 27, 96, 79, 4, 172]
abbrev dktX9_lifts_2 : List UInt8 := dkwX9_lifts_2 ++ []
def dkwX9_lifts_1 : List UInt8 := [42, 180, 0, 7, 16, 106, 5, 28, 104, 96, 46, 42, 27, 6, 182, 1, 2, 164, 0, 5, 3, 172, 42]
abbrev dktX9_lifts_1 : List UInt8 := dkwX9_lifts_1 ++ dktX9_lifts_2
def dkwX9_lifts_0 : List UInt8 := [42, 180, 0, 50, 28, 46, 42, 180, 0, 47, 27, 46, 160, 0, 32, 42, 27, 182, 1, 50, 2, 160, 0, 23]
abbrev dktX9_lifts_0 : List UInt8 := dkwX9_lifts_0 ++ dktX9_lifts_1
theorem dksX9_lifts_0 : cX9_lifts.data.toList.drop 0 = dktX9_lifts_0 := by decide +kernel
theorem dksX9_lifts_1 : cX9_lifts.data.toList.drop 24 = dktX9_lifts_1 := dk_seg dksX9_lifts_0 24 rfl rfl
theorem dksX9_lifts_2 : cX9_lifts.data.toList.drop 47 = dktX9_lifts_2 := dk_seg dksX9_lifts_1 23 rfl rfl
theorem dX9_lifts_0 : decode cX9_lifts 0 = .ok (.aload_n 0, 1) := dk_42 (dk_at dksX9_lifts_0 0 rfl rfl)
theorem dX9_lifts_1 : decode cX9_lifts 1 = .ok (.getfield 50, 3) := dk_180 0 50 (dk_at dksX9_lifts_0 1 rfl rfl)
theorem dX9_lifts_4 : decode cX9_lifts 4 = .ok (.iload_n 2, 1) := dk_28 (dk_at dksX9_lifts_0 4 rfl rfl)
theorem dX9_lifts_5 : decode cX9_lifts 5 = .ok (.iaload, 1) := dk_46 (dk_at dksX9_lifts_0 5 rfl rfl)
theorem dX9_lifts_6 : decode cX9_lifts 6 = .ok (.aload_n 0, 1) := dk_42 (dk_at dksX9_lifts_0 6 rfl rfl)
theorem dX9_lifts_7 : decode cX9_lifts 7 = .ok (.getfield 47, 3) := dk_180 0 47 (dk_at dksX9_lifts_0 7 rfl rfl)
theorem dX9_lifts_10 : decode cX9_lifts 10 = .ok (.iload_n 1, 1) := dk_27 (dk_at dksX9_lifts_0 10 rfl rfl)
theorem dX9_lifts_11 : decode cX9_lifts 11 = .ok (.iaload, 1) := dk_46 (dk_at dksX9_lifts_0 11 rfl rfl)
theorem dX9_lifts_12 : decode cX9_lifts 12 = .ok (.if_icmp .ne 32, 3) := dk_160 0 32 (dk_at dksX9_lifts_0 12 rfl rfl)
theorem dX9_lifts_15 : decode cX9_lifts 15 = .ok (.aload_n 0, 1) := dk_42 (dk_at dksX9_lifts_0 15 rfl rfl)
theorem dX9_lifts_16 : decode cX9_lifts 16 = .ok (.iload_n 1, 1) := dk_27 (dk_at dksX9_lifts_0 16 rfl rfl)
theorem dX9_lifts_17 : decode cX9_lifts 17 = .ok (.invokevirtual 306, 3) := dk_182 1 50 (dk_at dksX9_lifts_0 17 rfl rfl)
theorem dX9_lifts_20 : decode cX9_lifts 20 = .ok (.iconst (-1), 1) := dk_2 (dk_at dksX9_lifts_0 20 rfl rfl)
theorem dX9_lifts_21 : decode cX9_lifts 21 = .ok (.if_icmp .ne 23, 3) := dk_160 0 23 (dk_at dksX9_lifts_0 21 rfl rfl)
theorem dX9_lifts_24 : decode cX9_lifts 24 = .ok (.aload_n 0, 1) := dk_42 (dk_at dksX9_lifts_1 0 rfl rfl)
theorem dX9_lifts_25 : decode cX9_lifts 25 = .ok (.getfield 7, 3) := dk_180 0 7 (dk_at dksX9_lifts_1 1 rfl rfl)
theorem dX9_lifts_28 : decode cX9_lifts 28 = .ok (.bipush 106, 2) := dk_16 106 (dk_at dksX9_lifts_1 4 rfl rfl)
theorem dX9_lifts_30 : decode cX9_lifts 30 = .ok (.iconst 2, 1) := dk_5 (dk_at dksX9_lifts_1 6 rfl rfl)
theorem dX9_lifts_31 : decode cX9_lifts 31 = .ok (.iload_n 2, 1) := dk_28 (dk_at dksX9_lifts_1 7 rfl rfl)
theorem dX9_lifts_32 : decode cX9_lifts 32 = .ok (.imul, 1) := dk_104 (dk_at dksX9_lifts_1 8 rfl rfl)
theorem dX9_lifts_33 : decode cX9_lifts 33 = .ok (.iadd, 1) := dk_96 (dk_at dksX9_lifts_1 9 rfl rfl)
theorem dX9_lifts_34 : decode cX9_lifts 34 = .ok (.iaload, 1) := dk_46 (dk_at dksX9_lifts_1 10 rfl rfl)
theorem dX9_lifts_35 : decode cX9_lifts 35 = .ok (.aload_n 0, 1) := dk_42 (dk_at dksX9_lifts_1 11 rfl rfl)
theorem dX9_lifts_36 : decode cX9_lifts 36 = .ok (.iload_n 1, 1) := dk_27 (dk_at dksX9_lifts_1 12 rfl rfl)
theorem dX9_lifts_37 : decode cX9_lifts 37 = .ok (.iconst 3, 1) := dk_6 (dk_at dksX9_lifts_1 13 rfl rfl)
theorem dX9_lifts_38 : decode cX9_lifts 38 = .ok (.invokevirtual 258, 3) := dk_182 1 2 (dk_at dksX9_lifts_1 14 rfl rfl)
theorem dX9_lifts_41 : decode cX9_lifts 41 = .ok (.if_icmp .le 5, 3) := dk_164 0 5 (dk_at dksX9_lifts_1 17 rfl rfl)
theorem dX9_lifts_44 : decode cX9_lifts 44 = .ok (.iconst 0, 1) := dk_3 (dk_at dksX9_lifts_1 20 rfl rfl)
theorem dX9_lifts_45 : decode cX9_lifts 45 = .ok (.ireturn, 1) := dk_172 (dk_at dksX9_lifts_1 21 rfl rfl)
theorem dX9_lifts_46 : decode cX9_lifts 46 = .ok (.aload_n 0, 1) := dk_42 (dk_at dksX9_lifts_1 22 rfl rfl)
theorem dX9_lifts_47 : decode cX9_lifts 47 = .ok (.getfield 50, 3) := dk_180 0 50 (dk_at dksX9_lifts_2 0 rfl rfl)
theorem dX9_lifts_50 : decode cX9_lifts 50 = .ok (.iload_n 2, 1) := dk_28 (dk_at dksX9_lifts_2 3 rfl rfl)
theorem dX9_lifts_51 : decode cX9_lifts 51 = .ok (.bipush 6, 2) := dk_16 6 (dk_at dksX9_lifts_2 4 rfl rfl)
theorem dX9_lifts_53 : decode cX9_lifts 53 = .ok (.iload_n 1, 1) := dk_27 (dk_at dksX9_lifts_2 6 rfl rfl)
theorem dX9_lifts_54 : decode cX9_lifts 54 = .ok (.iadd, 1) := dk_96 (dk_at dksX9_lifts_2 7 rfl rfl)
theorem dX9_lifts_55 : decode cX9_lifts 55 = .ok (.iastore, 1) := dk_79 (dk_at dksX9_lifts_2 8 rfl rfl)
theorem dX9_lifts_56 : decode cX9_lifts 56 = .ok (.iconst 1, 1) := dk_4 (dk_at dksX9_lifts_2 9 rfl rfl)
theorem dX9_lifts_57 : decode cX9_lifts 57 = .ok (.ireturn, 1) := dk_172 (dk_at dksX9_lifts_2 10 rfl rfl)
abbrev cX9_drop : ByteArray := prog_21_method_91_code
def yX9_drop : MethodName := ⟨RX9, "drop", "(I)Z"⟩
def dkwX9_drop_1 : List UInt8 := [182, 1, 85, 172]
abbrev dktX9_drop_1 : List UInt8 := dkwX9_drop_1 ++ []
def dkwX9_drop_0 : List UInt8 := [42, 27, 182, 1, 41, 154, 0, 9, 42, 4, 182, 0, 110, 172, 42, 182, 1, 29, 42, 42, 27, 182, 1, 95]
abbrev dktX9_drop_0 : List UInt8 := dkwX9_drop_0 ++ dktX9_drop_1
theorem dksX9_drop_0 : cX9_drop.data.toList.drop 0 = dktX9_drop_0 := by decide +kernel
theorem dksX9_drop_1 : cX9_drop.data.toList.drop 24 = dktX9_drop_1 := dk_seg dksX9_drop_0 24 rfl rfl
theorem dX9_drop_0 : decode cX9_drop 0 = .ok (.aload_n 0, 1) := dk_42 (dk_at dksX9_drop_0 0 rfl rfl)
theorem dX9_drop_1 : decode cX9_drop 1 = .ok (.iload_n 1, 1) := dk_27 (dk_at dksX9_drop_0 1 rfl rfl)
theorem dX9_drop_2 : decode cX9_drop 2 = .ok (.invokevirtual 297, 3) := dk_182 1 41 (dk_at dksX9_drop_0 2 rfl rfl)
theorem dX9_drop_5 : decode cX9_drop 5 = .ok (.ifCond .ne 9, 3) := dk_154 0 9 (dk_at dksX9_drop_0 5 rfl rfl)
theorem dX9_drop_8 : decode cX9_drop 8 = .ok (.aload_n 0, 1) := dk_42 (dk_at dksX9_drop_0 8 rfl rfl)
theorem dX9_drop_9 : decode cX9_drop 9 = .ok (.iconst 1, 1) := dk_4 (dk_at dksX9_drop_0 9 rfl rfl)
theorem dX9_drop_10 : decode cX9_drop 10 = .ok (.invokevirtual 110, 3) := dk_182 0 110 (dk_at dksX9_drop_0 10 rfl rfl)
theorem dX9_drop_13 : decode cX9_drop 13 = .ok (.ireturn, 1) := dk_172 (dk_at dksX9_drop_0 13 rfl rfl)
theorem dX9_drop_14 : decode cX9_drop 14 = .ok (.aload_n 0, 1) := dk_42 (dk_at dksX9_drop_0 14 rfl rfl)
theorem dX9_drop_15 : decode cX9_drop 15 = .ok (.invokevirtual 285, 3) := dk_182 1 29 (dk_at dksX9_drop_0 15 rfl rfl)
theorem dX9_drop_18 : decode cX9_drop 18 = .ok (.aload_n 0, 1) := dk_42 (dk_at dksX9_drop_0 18 rfl rfl)
theorem dX9_drop_19 : decode cX9_drop 19 = .ok (.aload_n 0, 1) := dk_42 (dk_at dksX9_drop_0 19 rfl rfl)
theorem dX9_drop_20 : decode cX9_drop 20 = .ok (.iload_n 1, 1) := dk_27 (dk_at dksX9_drop_0 20 rfl rfl)
theorem dX9_drop_21 : decode cX9_drop 21 = .ok (.invokevirtual 351, 3) := dk_182 1 95 (dk_at dksX9_drop_0 21 rfl rfl)
theorem dX9_drop_24 : decode cX9_drop 24 = .ok (.invokevirtual 341, 3) := dk_182 1 85 (dk_at dksX9_drop_1 0 rfl rfl)
theorem dX9_drop_27 : decode cX9_drop 27 = .ok (.ireturn, 1) := dk_172 (dk_at dksX9_drop_1 3 rfl rfl)
abbrev cX9_drops : ByteArray := prog_21_method_84_code
def yX9_drops : MethodName := ⟨RX9, "drops", "(I)Z"⟩
def dkwX9_drops_1 : List UInt8 := [79, 4, 172]
abbrev dktX9_drops_1 : List UInt8 := dkwX9_drops_1 ++ []
def dkwX9_drops_0 : List UInt8 := [42, 27, 182, 1, 50, 61, 28, 2, 160, 0, 5, 3, 172, 42, 180, 0, 50, 28, 42, 180, 0, 47, 27, 46]
abbrev dktX9_drops_0 : List UInt8 := dkwX9_drops_0 ++ dktX9_drops_1
theorem dksX9_drops_0 : cX9_drops.data.toList.drop 0 = dktX9_drops_0 := by decide +kernel
theorem dksX9_drops_1 : cX9_drops.data.toList.drop 24 = dktX9_drops_1 := dk_seg dksX9_drops_0 24 rfl rfl
theorem dX9_drops_0 : decode cX9_drops 0 = .ok (.aload_n 0, 1) := dk_42 (dk_at dksX9_drops_0 0 rfl rfl)
theorem dX9_drops_1 : decode cX9_drops 1 = .ok (.iload_n 1, 1) := dk_27 (dk_at dksX9_drops_0 1 rfl rfl)
theorem dX9_drops_2 : decode cX9_drops 2 = .ok (.invokevirtual 306, 3) := dk_182 1 50 (dk_at dksX9_drops_0 2 rfl rfl)
theorem dX9_drops_5 : decode cX9_drops 5 = .ok (.istore_n 2, 1) := dk_61 (dk_at dksX9_drops_0 5 rfl rfl)
theorem dX9_drops_6 : decode cX9_drops 6 = .ok (.iload_n 2, 1) := dk_28 (dk_at dksX9_drops_0 6 rfl rfl)
theorem dX9_drops_7 : decode cX9_drops 7 = .ok (.iconst (-1), 1) := dk_2 (dk_at dksX9_drops_0 7 rfl rfl)
theorem dX9_drops_8 : decode cX9_drops 8 = .ok (.if_icmp .ne 5, 3) := dk_160 0 5 (dk_at dksX9_drops_0 8 rfl rfl)
theorem dX9_drops_11 : decode cX9_drops 11 = .ok (.iconst 0, 1) := dk_3 (dk_at dksX9_drops_0 11 rfl rfl)
theorem dX9_drops_12 : decode cX9_drops 12 = .ok (.ireturn, 1) := dk_172 (dk_at dksX9_drops_0 12 rfl rfl)
theorem dX9_drops_13 : decode cX9_drops 13 = .ok (.aload_n 0, 1) := dk_42 (dk_at dksX9_drops_0 13 rfl rfl)
theorem dX9_drops_14 : decode cX9_drops 14 = .ok (.getfield 50, 3) := dk_180 0 50 (dk_at dksX9_drops_0 14 rfl rfl)
theorem dX9_drops_17 : decode cX9_drops 17 = .ok (.iload_n 2, 1) := dk_28 (dk_at dksX9_drops_0 17 rfl rfl)
theorem dX9_drops_18 : decode cX9_drops 18 = .ok (.aload_n 0, 1) := dk_42 (dk_at dksX9_drops_0 18 rfl rfl)
theorem dX9_drops_19 : decode cX9_drops 19 = .ok (.getfield 47, 3) := dk_180 0 47 (dk_at dksX9_drops_0 19 rfl rfl)
theorem dX9_drops_22 : decode cX9_drops 22 = .ok (.iload_n 1, 1) := dk_27 (dk_at dksX9_drops_0 22 rfl rfl)
theorem dX9_drops_23 : decode cX9_drops 23 = .ok (.iaload, 1) := dk_46 (dk_at dksX9_drops_0 23 rfl rfl)
theorem dX9_drops_24 : decode cX9_drops 24 = .ok (.iastore, 1) := dk_79 (dk_at dksX9_drops_1 0 rfl rfl)
theorem dX9_drops_25 : decode cX9_drops 25 = .ok (.iconst 1, 1) := dk_4 (dk_at dksX9_drops_1 1 rfl rfl)
theorem dX9_drops_26 : decode cX9_drops 26 = .ok (.ireturn, 1) := dk_172 (dk_at dksX9_drops_1 2 rfl rfl)
abbrev cX9_least : ByteArray := prog_21_method_102_code
def yX9_least : MethodName := ⟨RX9, "least", "(I)I"⟩
def dkwX9_least_1 : List UInt8 := [182, 1, 138, 182, 1, 44, 172, 42, 182, 1, 129, 42, 42, 182, 1, 141, 182, 1, 44, 172]
abbrev dktX9_least_1 : List UInt8 := dkwX9_least_1 ++ []
def dkwX9_least_0 : List UInt8 := [27, 155, 0, 8, 27, 5, 164, 0, 9, 42, 4, 182, 0, 103, 172, 27, 158, 0, 13, 42, 42, 27]
abbrev dktX9_least_0 : List UInt8 := dkwX9_least_0 ++ dktX9_least_1
theorem dksX9_least_0 : cX9_least.data.toList.drop 0 = dktX9_least_0 := by decide +kernel
theorem dksX9_least_1 : cX9_least.data.toList.drop 22 = dktX9_least_1 := dk_seg dksX9_least_0 22 rfl rfl
theorem dX9_least_0 : decode cX9_least 0 = .ok (.iload_n 1, 1) := dk_27 (dk_at dksX9_least_0 0 rfl rfl)
theorem dX9_least_1 : decode cX9_least 1 = .ok (.ifCond .lt 8, 3) := dk_155 0 8 (dk_at dksX9_least_0 1 rfl rfl)
theorem dX9_least_4 : decode cX9_least 4 = .ok (.iload_n 1, 1) := dk_27 (dk_at dksX9_least_0 4 rfl rfl)
theorem dX9_least_5 : decode cX9_least 5 = .ok (.iconst 2, 1) := dk_5 (dk_at dksX9_least_0 5 rfl rfl)
theorem dX9_least_6 : decode cX9_least 6 = .ok (.if_icmp .le 9, 3) := dk_164 0 9 (dk_at dksX9_least_0 6 rfl rfl)
theorem dX9_least_9 : decode cX9_least 9 = .ok (.aload_n 0, 1) := dk_42 (dk_at dksX9_least_0 9 rfl rfl)
theorem dX9_least_10 : decode cX9_least 10 = .ok (.iconst 1, 1) := dk_4 (dk_at dksX9_least_0 10 rfl rfl)
theorem dX9_least_11 : decode cX9_least 11 = .ok (.invokevirtual 103, 3) := dk_182 0 103 (dk_at dksX9_least_0 11 rfl rfl)
theorem dX9_least_14 : decode cX9_least 14 = .ok (.ireturn, 1) := dk_172 (dk_at dksX9_least_0 14 rfl rfl)
theorem dX9_least_15 : decode cX9_least 15 = .ok (.iload_n 1, 1) := dk_27 (dk_at dksX9_least_0 15 rfl rfl)
theorem dX9_least_16 : decode cX9_least 16 = .ok (.ifCond .le 13, 3) := dk_158 0 13 (dk_at dksX9_least_0 16 rfl rfl)
theorem dX9_least_19 : decode cX9_least 19 = .ok (.aload_n 0, 1) := dk_42 (dk_at dksX9_least_0 19 rfl rfl)
theorem dX9_least_20 : decode cX9_least 20 = .ok (.aload_n 0, 1) := dk_42 (dk_at dksX9_least_0 20 rfl rfl)
theorem dX9_least_21 : decode cX9_least 21 = .ok (.iload_n 1, 1) := dk_27 (dk_at dksX9_least_0 21 rfl rfl)
theorem dX9_least_22 : decode cX9_least 22 = .ok (.invokevirtual 394, 3) := dk_182 1 138 (dk_at dksX9_least_1 0 rfl rfl)
theorem dX9_least_25 : decode cX9_least 25 = .ok (.invokevirtual 300, 3) := dk_182 1 44 (dk_at dksX9_least_1 3 rfl rfl)
theorem dX9_least_28 : decode cX9_least 28 = .ok (.ireturn, 1) := dk_172 (dk_at dksX9_least_1 6 rfl rfl)
theorem dX9_least_29 : decode cX9_least 29 = .ok (.aload_n 0, 1) := dk_42 (dk_at dksX9_least_1 7 rfl rfl)
theorem dX9_least_30 : decode cX9_least 30 = .ok (.invokevirtual 385, 3) := dk_182 1 129 (dk_at dksX9_least_1 8 rfl rfl)
theorem dX9_least_33 : decode cX9_least 33 = .ok (.aload_n 0, 1) := dk_42 (dk_at dksX9_least_1 11 rfl rfl)
theorem dX9_least_34 : decode cX9_least 34 = .ok (.aload_n 0, 1) := dk_42 (dk_at dksX9_least_1 12 rfl rfl)
theorem dX9_least_35 : decode cX9_least 35 = .ok (.invokevirtual 397, 3) := dk_182 1 141 (dk_at dksX9_least_1 13 rfl rfl)
theorem dX9_least_38 : decode cX9_least 38 = .ok (.invokevirtual 300, 3) := dk_182 1 44 (dk_at dksX9_least_1 16 rfl rfl)
theorem dX9_least_41 : decode cX9_least 41 = .ok (.ireturn, 1) := dk_172 (dk_at dksX9_least_1 19 rfl rfl)
abbrev cX9_leastBy : ByteArray := prog_21_method_100_code
def yX9_leastBy : MethodName := ⟨RX9, "leastBy", "(I)I"⟩
def dkwX9_leastBy_8 : List UInt8 := [153, 0, 16, 42, 180, 0, 69, 42, 180, 0, 72, 21, 4, 46, 46, 62, 132, 4, 1, 167, 255, 180, 29, 172]
abbrev dktX9_leastBy_8 : List UInt8 := dkwX9_leastBy_8 ++ []
def dkwX9_leastBy_7 : List UInt8 := [42, 180, 0, 72, 21, 4, 46, 46, 29, 162, 0, 30, 42, 42, 180, 0, 72, 21, 4, 46, 182, 1, 126]
abbrev dktX9_leastBy_7 : List UInt8 := dkwX9_leastBy_7 ++ dktX9_leastBy_8
def dkwX9_leastBy_6 : List UInt8 := [180, 0, 69, 42, 180, 0, 72, 21, 4, 46, 46, 2, 159, 0, 51, 29, 2, 159, 0, 19, 42, 180, 0, 69]
abbrev dktX9_leastBy_6 : List UInt8 := dkwX9_leastBy_6 ++ dktX9_leastBy_7
def dkwX9_leastBy_5 : List UInt8 := [132, 3, 1, 167, 255, 207, 167, 255, 196, 2, 62, 3, 54, 4, 21, 4, 42, 180, 1, 117, 162, 0, 73, 42]
abbrev dktX9_leastBy_5 : List UInt8 := dkwX9_leastBy_5 ++ dktX9_leastBy_6
def dkwX9_leastBy_4 : List UInt8 := [180, 0, 72, 29, 46, 27, 182, 1, 132, 154, 0, 7, 28, 153, 0, 7, 4, 167, 0, 4, 3, 61]
abbrev dktX9_leastBy_4 : List UInt8 := dkwX9_leastBy_4 ++ dktX9_leastBy_5
def dkwX9_leastBy_3 : List UInt8 := [180, 1, 117, 162, 0, 47, 42, 180, 0, 75, 42, 180, 0, 72, 29, 46, 51, 153, 0, 27, 42, 42]
abbrev dktX9_leastBy_3 : List UInt8 := dkwX9_leastBy_3 ++ dktX9_leastBy_4
def dkwX9_leastBy_2 : List UInt8 := [4, 167, 0, 4, 3, 84, 132, 2, 1, 167, 255, 205, 4, 61, 28, 153, 0, 62, 3, 61, 3, 62, 29, 42]
abbrev dktX9_leastBy_2 : List UInt8 := dkwX9_leastBy_2 ++ dktX9_leastBy_3
def dkwX9_leastBy_1 : List UInt8 := [28, 154, 0, 7, 3, 167, 0, 4, 2, 79, 42, 180, 0, 75, 42, 180, 0, 72, 28, 46, 28, 154, 0, 7]
abbrev dktX9_leastBy_1 : List UInt8 := dkwX9_leastBy_1 ++ dktX9_leastBy_2
def dkwX9_leastBy_0 : List UInt8 := [42, 182, 1, 129, 3, 61, 28, 42, 180, 1, 117, 162, 0, 49, 42, 180, 0, 69, 42, 180, 0, 72, 28, 46]
abbrev dktX9_leastBy_0 : List UInt8 := dkwX9_leastBy_0 ++ dktX9_leastBy_1
theorem dksX9_leastBy_0 : cX9_leastBy.data.toList.drop 0 = dktX9_leastBy_0 := by decide +kernel
theorem dksX9_leastBy_1 : cX9_leastBy.data.toList.drop 24 = dktX9_leastBy_1 := dk_seg dksX9_leastBy_0 24 rfl rfl
theorem dksX9_leastBy_2 : cX9_leastBy.data.toList.drop 48 = dktX9_leastBy_2 := dk_seg dksX9_leastBy_1 24 rfl rfl
theorem dksX9_leastBy_3 : cX9_leastBy.data.toList.drop 72 = dktX9_leastBy_3 := dk_seg dksX9_leastBy_2 24 rfl rfl
theorem dksX9_leastBy_4 : cX9_leastBy.data.toList.drop 94 = dktX9_leastBy_4 := dk_seg dksX9_leastBy_3 22 rfl rfl
theorem dksX9_leastBy_5 : cX9_leastBy.data.toList.drop 116 = dktX9_leastBy_5 := dk_seg dksX9_leastBy_4 22 rfl rfl
theorem dksX9_leastBy_6 : cX9_leastBy.data.toList.drop 140 = dktX9_leastBy_6 := dk_seg dksX9_leastBy_5 24 rfl rfl
theorem dksX9_leastBy_7 : cX9_leastBy.data.toList.drop 164 = dktX9_leastBy_7 := dk_seg dksX9_leastBy_6 24 rfl rfl
theorem dksX9_leastBy_8 : cX9_leastBy.data.toList.drop 187 = dktX9_leastBy_8 := dk_seg dksX9_leastBy_7 23 rfl rfl
theorem dX9_leastBy_0 : decode cX9_leastBy 0 = .ok (.aload_n 0, 1) := dk_42 (dk_at dksX9_leastBy_0 0 rfl rfl)
theorem dX9_leastBy_1 : decode cX9_leastBy 1 = .ok (.invokevirtual 385, 3) := dk_182 1 129 (dk_at dksX9_leastBy_0 1 rfl rfl)
theorem dX9_leastBy_4 : decode cX9_leastBy 4 = .ok (.iconst 0, 1) := dk_3 (dk_at dksX9_leastBy_0 4 rfl rfl)
theorem dX9_leastBy_5 : decode cX9_leastBy 5 = .ok (.istore_n 2, 1) := dk_61 (dk_at dksX9_leastBy_0 5 rfl rfl)
theorem dX9_leastBy_6 : decode cX9_leastBy 6 = .ok (.iload_n 2, 1) := dk_28 (dk_at dksX9_leastBy_0 6 rfl rfl)
theorem dX9_leastBy_7 : decode cX9_leastBy 7 = .ok (.aload_n 0, 1) := dk_42 (dk_at dksX9_leastBy_0 7 rfl rfl)
theorem dX9_leastBy_8 : decode cX9_leastBy 8 = .ok (.getfield 373, 3) := dk_180 1 117 (dk_at dksX9_leastBy_0 8 rfl rfl)
theorem dX9_leastBy_11 : decode cX9_leastBy 11 = .ok (.if_icmp .ge 49, 3) := dk_162 0 49 (dk_at dksX9_leastBy_0 11 rfl rfl)
theorem dX9_leastBy_14 : decode cX9_leastBy 14 = .ok (.aload_n 0, 1) := dk_42 (dk_at dksX9_leastBy_0 14 rfl rfl)
theorem dX9_leastBy_15 : decode cX9_leastBy 15 = .ok (.getfield 69, 3) := dk_180 0 69 (dk_at dksX9_leastBy_0 15 rfl rfl)
theorem dX9_leastBy_18 : decode cX9_leastBy 18 = .ok (.aload_n 0, 1) := dk_42 (dk_at dksX9_leastBy_0 18 rfl rfl)
theorem dX9_leastBy_19 : decode cX9_leastBy 19 = .ok (.getfield 72, 3) := dk_180 0 72 (dk_at dksX9_leastBy_0 19 rfl rfl)
theorem dX9_leastBy_22 : decode cX9_leastBy 22 = .ok (.iload_n 2, 1) := dk_28 (dk_at dksX9_leastBy_0 22 rfl rfl)
theorem dX9_leastBy_23 : decode cX9_leastBy 23 = .ok (.iaload, 1) := dk_46 (dk_at dksX9_leastBy_0 23 rfl rfl)
theorem dX9_leastBy_24 : decode cX9_leastBy 24 = .ok (.iload_n 2, 1) := dk_28 (dk_at dksX9_leastBy_1 0 rfl rfl)
theorem dX9_leastBy_25 : decode cX9_leastBy 25 = .ok (.ifCond .ne 7, 3) := dk_154 0 7 (dk_at dksX9_leastBy_1 1 rfl rfl)
theorem dX9_leastBy_28 : decode cX9_leastBy 28 = .ok (.iconst 0, 1) := dk_3 (dk_at dksX9_leastBy_1 4 rfl rfl)
theorem dX9_leastBy_29 : decode cX9_leastBy 29 = .ok (.goto 4, 3) := dk_167 0 4 (dk_at dksX9_leastBy_1 5 rfl rfl)
theorem dX9_leastBy_32 : decode cX9_leastBy 32 = .ok (.iconst (-1), 1) := dk_2 (dk_at dksX9_leastBy_1 8 rfl rfl)
theorem dX9_leastBy_33 : decode cX9_leastBy 33 = .ok (.iastore, 1) := dk_79 (dk_at dksX9_leastBy_1 9 rfl rfl)
theorem dX9_leastBy_34 : decode cX9_leastBy 34 = .ok (.aload_n 0, 1) := dk_42 (dk_at dksX9_leastBy_1 10 rfl rfl)
theorem dX9_leastBy_35 : decode cX9_leastBy 35 = .ok (.getfield 75, 3) := dk_180 0 75 (dk_at dksX9_leastBy_1 11 rfl rfl)
theorem dX9_leastBy_38 : decode cX9_leastBy 38 = .ok (.aload_n 0, 1) := dk_42 (dk_at dksX9_leastBy_1 14 rfl rfl)
theorem dX9_leastBy_39 : decode cX9_leastBy 39 = .ok (.getfield 72, 3) := dk_180 0 72 (dk_at dksX9_leastBy_1 15 rfl rfl)
theorem dX9_leastBy_42 : decode cX9_leastBy 42 = .ok (.iload_n 2, 1) := dk_28 (dk_at dksX9_leastBy_1 18 rfl rfl)
theorem dX9_leastBy_43 : decode cX9_leastBy 43 = .ok (.iaload, 1) := dk_46 (dk_at dksX9_leastBy_1 19 rfl rfl)
theorem dX9_leastBy_44 : decode cX9_leastBy 44 = .ok (.iload_n 2, 1) := dk_28 (dk_at dksX9_leastBy_1 20 rfl rfl)
theorem dX9_leastBy_45 : decode cX9_leastBy 45 = .ok (.ifCond .ne 7, 3) := dk_154 0 7 (dk_at dksX9_leastBy_1 21 rfl rfl)
theorem dX9_leastBy_48 : decode cX9_leastBy 48 = .ok (.iconst 1, 1) := dk_4 (dk_at dksX9_leastBy_2 0 rfl rfl)
theorem dX9_leastBy_49 : decode cX9_leastBy 49 = .ok (.goto 4, 3) := dk_167 0 4 (dk_at dksX9_leastBy_2 1 rfl rfl)
theorem dX9_leastBy_52 : decode cX9_leastBy 52 = .ok (.iconst 0, 1) := dk_3 (dk_at dksX9_leastBy_2 4 rfl rfl)
theorem dX9_leastBy_53 : decode cX9_leastBy 53 = .ok (.bastore, 1) := dk_84 (dk_at dksX9_leastBy_2 5 rfl rfl)
theorem dX9_leastBy_54 : decode cX9_leastBy 54 = .ok (.iinc 2 1, 3) := dk_132 2 1 (dk_at dksX9_leastBy_2 6 rfl rfl)
theorem dX9_leastBy_57 : decode cX9_leastBy 57 = .ok (.goto (-51), 3) := dk_167 255 205 (dk_at dksX9_leastBy_2 9 rfl rfl)
theorem dX9_leastBy_60 : decode cX9_leastBy 60 = .ok (.iconst 1, 1) := dk_4 (dk_at dksX9_leastBy_2 12 rfl rfl)
theorem dX9_leastBy_61 : decode cX9_leastBy 61 = .ok (.istore_n 2, 1) := dk_61 (dk_at dksX9_leastBy_2 13 rfl rfl)
theorem dX9_leastBy_62 : decode cX9_leastBy 62 = .ok (.iload_n 2, 1) := dk_28 (dk_at dksX9_leastBy_2 14 rfl rfl)
theorem dX9_leastBy_63 : decode cX9_leastBy 63 = .ok (.ifCond .eq 62, 3) := dk_153 0 62 (dk_at dksX9_leastBy_2 15 rfl rfl)
theorem dX9_leastBy_66 : decode cX9_leastBy 66 = .ok (.iconst 0, 1) := dk_3 (dk_at dksX9_leastBy_2 18 rfl rfl)
theorem dX9_leastBy_67 : decode cX9_leastBy 67 = .ok (.istore_n 2, 1) := dk_61 (dk_at dksX9_leastBy_2 19 rfl rfl)
theorem dX9_leastBy_68 : decode cX9_leastBy 68 = .ok (.iconst 0, 1) := dk_3 (dk_at dksX9_leastBy_2 20 rfl rfl)
theorem dX9_leastBy_69 : decode cX9_leastBy 69 = .ok (.istore_n 3, 1) := dk_62 (dk_at dksX9_leastBy_2 21 rfl rfl)
theorem dX9_leastBy_70 : decode cX9_leastBy 70 = .ok (.iload_n 3, 1) := dk_29 (dk_at dksX9_leastBy_2 22 rfl rfl)
theorem dX9_leastBy_71 : decode cX9_leastBy 71 = .ok (.aload_n 0, 1) := dk_42 (dk_at dksX9_leastBy_2 23 rfl rfl)
theorem dX9_leastBy_72 : decode cX9_leastBy 72 = .ok (.getfield 373, 3) := dk_180 1 117 (dk_at dksX9_leastBy_3 0 rfl rfl)
theorem dX9_leastBy_75 : decode cX9_leastBy 75 = .ok (.if_icmp .ge 47, 3) := dk_162 0 47 (dk_at dksX9_leastBy_3 3 rfl rfl)
theorem dX9_leastBy_78 : decode cX9_leastBy 78 = .ok (.aload_n 0, 1) := dk_42 (dk_at dksX9_leastBy_3 6 rfl rfl)
theorem dX9_leastBy_79 : decode cX9_leastBy 79 = .ok (.getfield 75, 3) := dk_180 0 75 (dk_at dksX9_leastBy_3 7 rfl rfl)
theorem dX9_leastBy_82 : decode cX9_leastBy 82 = .ok (.aload_n 0, 1) := dk_42 (dk_at dksX9_leastBy_3 10 rfl rfl)
theorem dX9_leastBy_83 : decode cX9_leastBy 83 = .ok (.getfield 72, 3) := dk_180 0 72 (dk_at dksX9_leastBy_3 11 rfl rfl)
theorem dX9_leastBy_86 : decode cX9_leastBy 86 = .ok (.iload_n 3, 1) := dk_29 (dk_at dksX9_leastBy_3 14 rfl rfl)
theorem dX9_leastBy_87 : decode cX9_leastBy 87 = .ok (.iaload, 1) := dk_46 (dk_at dksX9_leastBy_3 15 rfl rfl)
theorem dX9_leastBy_88 : decode cX9_leastBy 88 = .ok (.baload, 1) := dk_51 (dk_at dksX9_leastBy_3 16 rfl rfl)
theorem dX9_leastBy_89 : decode cX9_leastBy 89 = .ok (.ifCond .eq 27, 3) := dk_153 0 27 (dk_at dksX9_leastBy_3 17 rfl rfl)
theorem dX9_leastBy_92 : decode cX9_leastBy 92 = .ok (.aload_n 0, 1) := dk_42 (dk_at dksX9_leastBy_3 20 rfl rfl)
theorem dX9_leastBy_93 : decode cX9_leastBy 93 = .ok (.aload_n 0, 1) := dk_42 (dk_at dksX9_leastBy_3 21 rfl rfl)
theorem dX9_leastBy_94 : decode cX9_leastBy 94 = .ok (.getfield 72, 3) := dk_180 0 72 (dk_at dksX9_leastBy_4 0 rfl rfl)
theorem dX9_leastBy_97 : decode cX9_leastBy 97 = .ok (.iload_n 3, 1) := dk_29 (dk_at dksX9_leastBy_4 3 rfl rfl)
theorem dX9_leastBy_98 : decode cX9_leastBy 98 = .ok (.iaload, 1) := dk_46 (dk_at dksX9_leastBy_4 4 rfl rfl)
theorem dX9_leastBy_99 : decode cX9_leastBy 99 = .ok (.iload_n 1, 1) := dk_27 (dk_at dksX9_leastBy_4 5 rfl rfl)
theorem dX9_leastBy_100 : decode cX9_leastBy 100 = .ok (.invokevirtual 388, 3) := dk_182 1 132 (dk_at dksX9_leastBy_4 6 rfl rfl)
theorem dX9_leastBy_103 : decode cX9_leastBy 103 = .ok (.ifCond .ne 7, 3) := dk_154 0 7 (dk_at dksX9_leastBy_4 9 rfl rfl)
theorem dX9_leastBy_106 : decode cX9_leastBy 106 = .ok (.iload_n 2, 1) := dk_28 (dk_at dksX9_leastBy_4 12 rfl rfl)
theorem dX9_leastBy_107 : decode cX9_leastBy 107 = .ok (.ifCond .eq 7, 3) := dk_153 0 7 (dk_at dksX9_leastBy_4 13 rfl rfl)
theorem dX9_leastBy_110 : decode cX9_leastBy 110 = .ok (.iconst 1, 1) := dk_4 (dk_at dksX9_leastBy_4 16 rfl rfl)
theorem dX9_leastBy_111 : decode cX9_leastBy 111 = .ok (.goto 4, 3) := dk_167 0 4 (dk_at dksX9_leastBy_4 17 rfl rfl)
theorem dX9_leastBy_114 : decode cX9_leastBy 114 = .ok (.iconst 0, 1) := dk_3 (dk_at dksX9_leastBy_4 20 rfl rfl)
theorem dX9_leastBy_115 : decode cX9_leastBy 115 = .ok (.istore_n 2, 1) := dk_61 (dk_at dksX9_leastBy_4 21 rfl rfl)
theorem dX9_leastBy_116 : decode cX9_leastBy 116 = .ok (.iinc 3 1, 3) := dk_132 3 1 (dk_at dksX9_leastBy_5 0 rfl rfl)
theorem dX9_leastBy_119 : decode cX9_leastBy 119 = .ok (.goto (-49), 3) := dk_167 255 207 (dk_at dksX9_leastBy_5 3 rfl rfl)
theorem dX9_leastBy_122 : decode cX9_leastBy 122 = .ok (.goto (-60), 3) := dk_167 255 196 (dk_at dksX9_leastBy_5 6 rfl rfl)
theorem dX9_leastBy_125 : decode cX9_leastBy 125 = .ok (.iconst (-1), 1) := dk_2 (dk_at dksX9_leastBy_5 9 rfl rfl)
theorem dX9_leastBy_126 : decode cX9_leastBy 126 = .ok (.istore_n 3, 1) := dk_62 (dk_at dksX9_leastBy_5 10 rfl rfl)
theorem dX9_leastBy_127 : decode cX9_leastBy 127 = .ok (.iconst 0, 1) := dk_3 (dk_at dksX9_leastBy_5 11 rfl rfl)
theorem dX9_leastBy_128 : decode cX9_leastBy 128 = .ok (.istore 4, 2) := dk_54 4 (dk_at dksX9_leastBy_5 12 rfl rfl)
theorem dX9_leastBy_130 : decode cX9_leastBy 130 = .ok (.iload 4, 2) := dk_21 4 (dk_at dksX9_leastBy_5 14 rfl rfl)
theorem dX9_leastBy_132 : decode cX9_leastBy 132 = .ok (.aload_n 0, 1) := dk_42 (dk_at dksX9_leastBy_5 16 rfl rfl)
theorem dX9_leastBy_133 : decode cX9_leastBy 133 = .ok (.getfield 373, 3) := dk_180 1 117 (dk_at dksX9_leastBy_5 17 rfl rfl)
theorem dX9_leastBy_136 : decode cX9_leastBy 136 = .ok (.if_icmp .ge 73, 3) := dk_162 0 73 (dk_at dksX9_leastBy_5 20 rfl rfl)
theorem dX9_leastBy_139 : decode cX9_leastBy 139 = .ok (.aload_n 0, 1) := dk_42 (dk_at dksX9_leastBy_5 23 rfl rfl)
theorem dX9_leastBy_140 : decode cX9_leastBy 140 = .ok (.getfield 69, 3) := dk_180 0 69 (dk_at dksX9_leastBy_6 0 rfl rfl)
theorem dX9_leastBy_143 : decode cX9_leastBy 143 = .ok (.aload_n 0, 1) := dk_42 (dk_at dksX9_leastBy_6 3 rfl rfl)
theorem dX9_leastBy_144 : decode cX9_leastBy 144 = .ok (.getfield 72, 3) := dk_180 0 72 (dk_at dksX9_leastBy_6 4 rfl rfl)
theorem dX9_leastBy_147 : decode cX9_leastBy 147 = .ok (.iload 4, 2) := dk_21 4 (dk_at dksX9_leastBy_6 7 rfl rfl)
theorem dX9_leastBy_149 : decode cX9_leastBy 149 = .ok (.iaload, 1) := dk_46 (dk_at dksX9_leastBy_6 9 rfl rfl)
theorem dX9_leastBy_150 : decode cX9_leastBy 150 = .ok (.iaload, 1) := dk_46 (dk_at dksX9_leastBy_6 10 rfl rfl)
theorem dX9_leastBy_151 : decode cX9_leastBy 151 = .ok (.iconst (-1), 1) := dk_2 (dk_at dksX9_leastBy_6 11 rfl rfl)
theorem dX9_leastBy_152 : decode cX9_leastBy 152 = .ok (.if_icmp .eq 51, 3) := dk_159 0 51 (dk_at dksX9_leastBy_6 12 rfl rfl)
theorem dX9_leastBy_155 : decode cX9_leastBy 155 = .ok (.iload_n 3, 1) := dk_29 (dk_at dksX9_leastBy_6 15 rfl rfl)
theorem dX9_leastBy_156 : decode cX9_leastBy 156 = .ok (.iconst (-1), 1) := dk_2 (dk_at dksX9_leastBy_6 16 rfl rfl)
theorem dX9_leastBy_157 : decode cX9_leastBy 157 = .ok (.if_icmp .eq 19, 3) := dk_159 0 19 (dk_at dksX9_leastBy_6 17 rfl rfl)
theorem dX9_leastBy_160 : decode cX9_leastBy 160 = .ok (.aload_n 0, 1) := dk_42 (dk_at dksX9_leastBy_6 20 rfl rfl)
theorem dX9_leastBy_161 : decode cX9_leastBy 161 = .ok (.getfield 69, 3) := dk_180 0 69 (dk_at dksX9_leastBy_6 21 rfl rfl)
theorem dX9_leastBy_164 : decode cX9_leastBy 164 = .ok (.aload_n 0, 1) := dk_42 (dk_at dksX9_leastBy_7 0 rfl rfl)
theorem dX9_leastBy_165 : decode cX9_leastBy 165 = .ok (.getfield 72, 3) := dk_180 0 72 (dk_at dksX9_leastBy_7 1 rfl rfl)
theorem dX9_leastBy_168 : decode cX9_leastBy 168 = .ok (.iload 4, 2) := dk_21 4 (dk_at dksX9_leastBy_7 4 rfl rfl)
theorem dX9_leastBy_170 : decode cX9_leastBy 170 = .ok (.iaload, 1) := dk_46 (dk_at dksX9_leastBy_7 6 rfl rfl)
theorem dX9_leastBy_171 : decode cX9_leastBy 171 = .ok (.iaload, 1) := dk_46 (dk_at dksX9_leastBy_7 7 rfl rfl)
theorem dX9_leastBy_172 : decode cX9_leastBy 172 = .ok (.iload_n 3, 1) := dk_29 (dk_at dksX9_leastBy_7 8 rfl rfl)
theorem dX9_leastBy_173 : decode cX9_leastBy 173 = .ok (.if_icmp .ge 30, 3) := dk_162 0 30 (dk_at dksX9_leastBy_7 9 rfl rfl)
theorem dX9_leastBy_176 : decode cX9_leastBy 176 = .ok (.aload_n 0, 1) := dk_42 (dk_at dksX9_leastBy_7 12 rfl rfl)
theorem dX9_leastBy_177 : decode cX9_leastBy 177 = .ok (.aload_n 0, 1) := dk_42 (dk_at dksX9_leastBy_7 13 rfl rfl)
theorem dX9_leastBy_178 : decode cX9_leastBy 178 = .ok (.getfield 72, 3) := dk_180 0 72 (dk_at dksX9_leastBy_7 14 rfl rfl)
theorem dX9_leastBy_181 : decode cX9_leastBy 181 = .ok (.iload 4, 2) := dk_21 4 (dk_at dksX9_leastBy_7 17 rfl rfl)
theorem dX9_leastBy_183 : decode cX9_leastBy 183 = .ok (.iaload, 1) := dk_46 (dk_at dksX9_leastBy_7 19 rfl rfl)
theorem dX9_leastBy_184 : decode cX9_leastBy 184 = .ok (.invokevirtual 382, 3) := dk_182 1 126 (dk_at dksX9_leastBy_7 20 rfl rfl)
theorem dX9_leastBy_187 : decode cX9_leastBy 187 = .ok (.ifCond .eq 16, 3) := dk_153 0 16 (dk_at dksX9_leastBy_8 0 rfl rfl)
theorem dX9_leastBy_190 : decode cX9_leastBy 190 = .ok (.aload_n 0, 1) := dk_42 (dk_at dksX9_leastBy_8 3 rfl rfl)
theorem dX9_leastBy_191 : decode cX9_leastBy 191 = .ok (.getfield 69, 3) := dk_180 0 69 (dk_at dksX9_leastBy_8 4 rfl rfl)
theorem dX9_leastBy_194 : decode cX9_leastBy 194 = .ok (.aload_n 0, 1) := dk_42 (dk_at dksX9_leastBy_8 7 rfl rfl)
theorem dX9_leastBy_195 : decode cX9_leastBy 195 = .ok (.getfield 72, 3) := dk_180 0 72 (dk_at dksX9_leastBy_8 8 rfl rfl)
theorem dX9_leastBy_198 : decode cX9_leastBy 198 = .ok (.iload 4, 2) := dk_21 4 (dk_at dksX9_leastBy_8 11 rfl rfl)
theorem dX9_leastBy_200 : decode cX9_leastBy 200 = .ok (.iaload, 1) := dk_46 (dk_at dksX9_leastBy_8 13 rfl rfl)
theorem dX9_leastBy_201 : decode cX9_leastBy 201 = .ok (.iaload, 1) := dk_46 (dk_at dksX9_leastBy_8 14 rfl rfl)
theorem dX9_leastBy_202 : decode cX9_leastBy 202 = .ok (.istore_n 3, 1) := dk_62 (dk_at dksX9_leastBy_8 15 rfl rfl)
theorem dX9_leastBy_203 : decode cX9_leastBy 203 = .ok (.iinc 4 1, 3) := dk_132 4 1 (dk_at dksX9_leastBy_8 16 rfl rfl)
theorem dX9_leastBy_206 : decode cX9_leastBy 206 = .ok (.goto (-76), 3) := dk_167 255 180 (dk_at dksX9_leastBy_8 19 rfl rfl)
theorem dX9_leastBy_209 : decode cX9_leastBy 209 = .ok (.iload_n 3, 1) := dk_29 (dk_at dksX9_leastBy_8 22 rfl rfl)
theorem dX9_leastBy_210 : decode cX9_leastBy 210 = .ok (.ireturn, 1) := dk_172 (dk_at dksX9_leastBy_8 23 rfl rfl)
abbrev cX9_comes : ByteArray := prog_21_method_97_code
def yX9_comes : MethodName := ⟨RX9, "comes", "()V"⟩
def dkwX9_comes_4 : List UInt8 := [167, 255, 176, 132, 1, 1, 167, 255, 160, 177]
abbrev dktX9_comes_4 : List UInt8 := dkwX9_comes_4 ++ []
def dkwX9_comes_3 : List UInt8 := [79, 42, 180, 0, 72, 42, 180, 1, 117, 29, 79, 42, 89, 180, 1, 117, 4, 96, 181, 1, 117, 132, 2, 1]
abbrev dktX9_comes_3 : List UInt8 := dkwX9_comes_3 ++ dktX9_comes_4
def dkwX9_comes_2 : List UInt8 := [159, 0, 6, 167, 0, 42, 42, 180, 0, 69, 29, 42, 180, 0, 69, 42, 180, 0, 72, 27, 46, 46, 4, 96]
abbrev dktX9_comes_2 : List UInt8 := dkwX9_comes_2 ++ dktX9_comes_3
def dkwX9_comes_1 : List UInt8 := [42, 42, 180, 0, 72, 27, 46, 28, 182, 1, 123, 62, 29, 2, 159, 0, 55, 42, 180, 0, 69, 29, 46, 2]
abbrev dktX9_comes_1 : List UInt8 := dkwX9_comes_1 ++ dktX9_comes_2
def dkwX9_comes_0 : List UInt8 := [42, 182, 1, 120, 3, 60, 27, 42, 180, 1, 117, 162, 0, 94, 3, 61, 28, 42, 180, 1, 98, 162, 0, 78]
abbrev dktX9_comes_0 : List UInt8 := dkwX9_comes_0 ++ dktX9_comes_1
theorem dksX9_comes_0 : cX9_comes.data.toList.drop 0 = dktX9_comes_0 := by decide +kernel
theorem dksX9_comes_1 : cX9_comes.data.toList.drop 24 = dktX9_comes_1 := dk_seg dksX9_comes_0 24 rfl rfl
theorem dksX9_comes_2 : cX9_comes.data.toList.drop 48 = dktX9_comes_2 := dk_seg dksX9_comes_1 24 rfl rfl
theorem dksX9_comes_3 : cX9_comes.data.toList.drop 72 = dktX9_comes_3 := dk_seg dksX9_comes_2 24 rfl rfl
theorem dksX9_comes_4 : cX9_comes.data.toList.drop 96 = dktX9_comes_4 := dk_seg dksX9_comes_3 24 rfl rfl
theorem dX9_comes_0 : decode cX9_comes 0 = .ok (.aload_n 0, 1) := dk_42 (dk_at dksX9_comes_0 0 rfl rfl)
theorem dX9_comes_1 : decode cX9_comes 1 = .ok (.invokevirtual 376, 3) := dk_182 1 120 (dk_at dksX9_comes_0 1 rfl rfl)
theorem dX9_comes_4 : decode cX9_comes 4 = .ok (.iconst 0, 1) := dk_3 (dk_at dksX9_comes_0 4 rfl rfl)
theorem dX9_comes_5 : decode cX9_comes 5 = .ok (.istore_n 1, 1) := dk_60 (dk_at dksX9_comes_0 5 rfl rfl)
theorem dX9_comes_6 : decode cX9_comes 6 = .ok (.iload_n 1, 1) := dk_27 (dk_at dksX9_comes_0 6 rfl rfl)
theorem dX9_comes_7 : decode cX9_comes 7 = .ok (.aload_n 0, 1) := dk_42 (dk_at dksX9_comes_0 7 rfl rfl)
theorem dX9_comes_8 : decode cX9_comes 8 = .ok (.getfield 373, 3) := dk_180 1 117 (dk_at dksX9_comes_0 8 rfl rfl)
theorem dX9_comes_11 : decode cX9_comes 11 = .ok (.if_icmp .ge 94, 3) := dk_162 0 94 (dk_at dksX9_comes_0 11 rfl rfl)
theorem dX9_comes_14 : decode cX9_comes 14 = .ok (.iconst 0, 1) := dk_3 (dk_at dksX9_comes_0 14 rfl rfl)
theorem dX9_comes_15 : decode cX9_comes 15 = .ok (.istore_n 2, 1) := dk_61 (dk_at dksX9_comes_0 15 rfl rfl)
theorem dX9_comes_16 : decode cX9_comes 16 = .ok (.iload_n 2, 1) := dk_28 (dk_at dksX9_comes_0 16 rfl rfl)
theorem dX9_comes_17 : decode cX9_comes 17 = .ok (.aload_n 0, 1) := dk_42 (dk_at dksX9_comes_0 17 rfl rfl)
theorem dX9_comes_18 : decode cX9_comes 18 = .ok (.getfield 354, 3) := dk_180 1 98 (dk_at dksX9_comes_0 18 rfl rfl)
theorem dX9_comes_21 : decode cX9_comes 21 = .ok (.if_icmp .ge 78, 3) := dk_162 0 78 (dk_at dksX9_comes_0 21 rfl rfl)
theorem dX9_comes_24 : decode cX9_comes 24 = .ok (.aload_n 0, 1) := dk_42 (dk_at dksX9_comes_1 0 rfl rfl)
theorem dX9_comes_25 : decode cX9_comes 25 = .ok (.aload_n 0, 1) := dk_42 (dk_at dksX9_comes_1 1 rfl rfl)
theorem dX9_comes_26 : decode cX9_comes 26 = .ok (.getfield 72, 3) := dk_180 0 72 (dk_at dksX9_comes_1 2 rfl rfl)
theorem dX9_comes_29 : decode cX9_comes 29 = .ok (.iload_n 1, 1) := dk_27 (dk_at dksX9_comes_1 5 rfl rfl)
theorem dX9_comes_30 : decode cX9_comes 30 = .ok (.iaload, 1) := dk_46 (dk_at dksX9_comes_1 6 rfl rfl)
theorem dX9_comes_31 : decode cX9_comes 31 = .ok (.iload_n 2, 1) := dk_28 (dk_at dksX9_comes_1 7 rfl rfl)
theorem dX9_comes_32 : decode cX9_comes 32 = .ok (.invokevirtual 379, 3) := dk_182 1 123 (dk_at dksX9_comes_1 8 rfl rfl)
theorem dX9_comes_35 : decode cX9_comes 35 = .ok (.istore_n 3, 1) := dk_62 (dk_at dksX9_comes_1 11 rfl rfl)
theorem dX9_comes_36 : decode cX9_comes 36 = .ok (.iload_n 3, 1) := dk_29 (dk_at dksX9_comes_1 12 rfl rfl)
theorem dX9_comes_37 : decode cX9_comes 37 = .ok (.iconst (-1), 1) := dk_2 (dk_at dksX9_comes_1 13 rfl rfl)
theorem dX9_comes_38 : decode cX9_comes 38 = .ok (.if_icmp .eq 55, 3) := dk_159 0 55 (dk_at dksX9_comes_1 14 rfl rfl)
theorem dX9_comes_41 : decode cX9_comes 41 = .ok (.aload_n 0, 1) := dk_42 (dk_at dksX9_comes_1 17 rfl rfl)
theorem dX9_comes_42 : decode cX9_comes 42 = .ok (.getfield 69, 3) := dk_180 0 69 (dk_at dksX9_comes_1 18 rfl rfl)
theorem dX9_comes_45 : decode cX9_comes 45 = .ok (.iload_n 3, 1) := dk_29 (dk_at dksX9_comes_1 21 rfl rfl)
theorem dX9_comes_46 : decode cX9_comes 46 = .ok (.iaload, 1) := dk_46 (dk_at dksX9_comes_1 22 rfl rfl)
theorem dX9_comes_47 : decode cX9_comes 47 = .ok (.iconst (-1), 1) := dk_2 (dk_at dksX9_comes_1 23 rfl rfl)
theorem dX9_comes_48 : decode cX9_comes 48 = .ok (.if_icmp .eq 6, 3) := dk_159 0 6 (dk_at dksX9_comes_2 0 rfl rfl)
theorem dX9_comes_51 : decode cX9_comes 51 = .ok (.goto 42, 3) := dk_167 0 42 (dk_at dksX9_comes_2 3 rfl rfl)
theorem dX9_comes_54 : decode cX9_comes 54 = .ok (.aload_n 0, 1) := dk_42 (dk_at dksX9_comes_2 6 rfl rfl)
theorem dX9_comes_55 : decode cX9_comes 55 = .ok (.getfield 69, 3) := dk_180 0 69 (dk_at dksX9_comes_2 7 rfl rfl)
theorem dX9_comes_58 : decode cX9_comes 58 = .ok (.iload_n 3, 1) := dk_29 (dk_at dksX9_comes_2 10 rfl rfl)
theorem dX9_comes_59 : decode cX9_comes 59 = .ok (.aload_n 0, 1) := dk_42 (dk_at dksX9_comes_2 11 rfl rfl)
theorem dX9_comes_60 : decode cX9_comes 60 = .ok (.getfield 69, 3) := dk_180 0 69 (dk_at dksX9_comes_2 12 rfl rfl)
theorem dX9_comes_63 : decode cX9_comes 63 = .ok (.aload_n 0, 1) := dk_42 (dk_at dksX9_comes_2 15 rfl rfl)
theorem dX9_comes_64 : decode cX9_comes 64 = .ok (.getfield 72, 3) := dk_180 0 72 (dk_at dksX9_comes_2 16 rfl rfl)
theorem dX9_comes_67 : decode cX9_comes 67 = .ok (.iload_n 1, 1) := dk_27 (dk_at dksX9_comes_2 19 rfl rfl)
theorem dX9_comes_68 : decode cX9_comes 68 = .ok (.iaload, 1) := dk_46 (dk_at dksX9_comes_2 20 rfl rfl)
theorem dX9_comes_69 : decode cX9_comes 69 = .ok (.iaload, 1) := dk_46 (dk_at dksX9_comes_2 21 rfl rfl)
theorem dX9_comes_70 : decode cX9_comes 70 = .ok (.iconst 1, 1) := dk_4 (dk_at dksX9_comes_2 22 rfl rfl)
theorem dX9_comes_71 : decode cX9_comes 71 = .ok (.iadd, 1) := dk_96 (dk_at dksX9_comes_2 23 rfl rfl)
theorem dX9_comes_72 : decode cX9_comes 72 = .ok (.iastore, 1) := dk_79 (dk_at dksX9_comes_3 0 rfl rfl)
theorem dX9_comes_73 : decode cX9_comes 73 = .ok (.aload_n 0, 1) := dk_42 (dk_at dksX9_comes_3 1 rfl rfl)
theorem dX9_comes_74 : decode cX9_comes 74 = .ok (.getfield 72, 3) := dk_180 0 72 (dk_at dksX9_comes_3 2 rfl rfl)
theorem dX9_comes_77 : decode cX9_comes 77 = .ok (.aload_n 0, 1) := dk_42 (dk_at dksX9_comes_3 5 rfl rfl)
theorem dX9_comes_78 : decode cX9_comes 78 = .ok (.getfield 373, 3) := dk_180 1 117 (dk_at dksX9_comes_3 6 rfl rfl)
theorem dX9_comes_81 : decode cX9_comes 81 = .ok (.iload_n 3, 1) := dk_29 (dk_at dksX9_comes_3 9 rfl rfl)
theorem dX9_comes_82 : decode cX9_comes 82 = .ok (.iastore, 1) := dk_79 (dk_at dksX9_comes_3 10 rfl rfl)
theorem dX9_comes_83 : decode cX9_comes 83 = .ok (.aload_n 0, 1) := dk_42 (dk_at dksX9_comes_3 11 rfl rfl)
theorem dX9_comes_84 : decode cX9_comes 84 = .ok (.dup, 1) := dk_89 (dk_at dksX9_comes_3 12 rfl rfl)
theorem dX9_comes_85 : decode cX9_comes 85 = .ok (.getfield 373, 3) := dk_180 1 117 (dk_at dksX9_comes_3 13 rfl rfl)
theorem dX9_comes_88 : decode cX9_comes 88 = .ok (.iconst 1, 1) := dk_4 (dk_at dksX9_comes_3 16 rfl rfl)
theorem dX9_comes_89 : decode cX9_comes 89 = .ok (.iadd, 1) := dk_96 (dk_at dksX9_comes_3 17 rfl rfl)
theorem dX9_comes_90 : decode cX9_comes 90 = .ok (.putfield 373, 3) := dk_181 1 117 (dk_at dksX9_comes_3 18 rfl rfl)
theorem dX9_comes_93 : decode cX9_comes 93 = .ok (.iinc 2 1, 3) := dk_132 2 1 (dk_at dksX9_comes_3 21 rfl rfl)
theorem dX9_comes_96 : decode cX9_comes 96 = .ok (.goto (-80), 3) := dk_167 255 176 (dk_at dksX9_comes_4 0 rfl rfl)
theorem dX9_comes_99 : decode cX9_comes 99 = .ok (.iinc 1 1, 3) := dk_132 1 1 (dk_at dksX9_comes_4 3 rfl rfl)
theorem dX9_comes_102 : decode cX9_comes 102 = .ok (.goto (-96), 3) := dk_167 255 160 (dk_at dksX9_comes_4 6 rfl rfl)
theorem dX9_comes_105 : decode cX9_comes 105 = .ok (.return_, 1) := dk_177 (dk_at dksX9_comes_4 9 rfl rfl)
abbrev cX9_starts : ByteArray := prog_21_method_96_code
def yX9_starts : MethodName := ⟨RX9, "starts", "()V"⟩
def dkwX9_starts_2 : List UInt8 := [180, 0, 72, 3, 42, 180, 1, 114, 79, 42, 4, 181, 1, 117, 177]
abbrev dktX9_starts_2 : List UInt8 := dkwX9_starts_2 ++ []
def dkwX9_starts_1 : List UInt8 := [42, 180, 0, 69, 27, 2, 79, 132, 1, 1, 167, 255, 240, 42, 180, 0, 69, 42, 180, 1, 114, 3, 79, 42]
abbrev dktX9_starts_1 : List UInt8 := dkwX9_starts_1 ++ dktX9_starts_2
def dkwX9_starts_0 : List UInt8 := [42, 182, 1, 111, 42, 182, 1, 29, 42, 42, 182, 1, 108, 181, 1, 114, 3, 60, 27, 18, 68, 162, 0, 16]
abbrev dktX9_starts_0 : List UInt8 := dkwX9_starts_0 ++ dktX9_starts_1
theorem dksX9_starts_0 : cX9_starts.data.toList.drop 0 = dktX9_starts_0 := by decide +kernel
theorem dksX9_starts_1 : cX9_starts.data.toList.drop 24 = dktX9_starts_1 := dk_seg dksX9_starts_0 24 rfl rfl
theorem dksX9_starts_2 : cX9_starts.data.toList.drop 48 = dktX9_starts_2 := dk_seg dksX9_starts_1 24 rfl rfl
theorem dX9_starts_0 : decode cX9_starts 0 = .ok (.aload_n 0, 1) := dk_42 (dk_at dksX9_starts_0 0 rfl rfl)
theorem dX9_starts_1 : decode cX9_starts 1 = .ok (.invokevirtual 367, 3) := dk_182 1 111 (dk_at dksX9_starts_0 1 rfl rfl)
theorem dX9_starts_4 : decode cX9_starts 4 = .ok (.aload_n 0, 1) := dk_42 (dk_at dksX9_starts_0 4 rfl rfl)
theorem dX9_starts_5 : decode cX9_starts 5 = .ok (.invokevirtual 285, 3) := dk_182 1 29 (dk_at dksX9_starts_0 5 rfl rfl)
theorem dX9_starts_8 : decode cX9_starts 8 = .ok (.aload_n 0, 1) := dk_42 (dk_at dksX9_starts_0 8 rfl rfl)
theorem dX9_starts_9 : decode cX9_starts 9 = .ok (.aload_n 0, 1) := dk_42 (dk_at dksX9_starts_0 9 rfl rfl)
theorem dX9_starts_10 : decode cX9_starts 10 = .ok (.invokevirtual 364, 3) := dk_182 1 108 (dk_at dksX9_starts_0 10 rfl rfl)
theorem dX9_starts_13 : decode cX9_starts 13 = .ok (.putfield 370, 3) := dk_181 1 114 (dk_at dksX9_starts_0 13 rfl rfl)
theorem dX9_starts_16 : decode cX9_starts 16 = .ok (.iconst 0, 1) := dk_3 (dk_at dksX9_starts_0 16 rfl rfl)
theorem dX9_starts_17 : decode cX9_starts 17 = .ok (.istore_n 1, 1) := dk_60 (dk_at dksX9_starts_0 17 rfl rfl)
theorem dX9_starts_18 : decode cX9_starts 18 = .ok (.iload_n 1, 1) := dk_27 (dk_at dksX9_starts_0 18 rfl rfl)
theorem dX9_starts_19 : decode cX9_starts 19 = .ok (.ldc 68, 2) := dk_18 68 (dk_at dksX9_starts_0 19 rfl rfl)
theorem dX9_starts_21 : decode cX9_starts 21 = .ok (.if_icmp .ge 16, 3) := dk_162 0 16 (dk_at dksX9_starts_0 21 rfl rfl)
theorem dX9_starts_24 : decode cX9_starts 24 = .ok (.aload_n 0, 1) := dk_42 (dk_at dksX9_starts_1 0 rfl rfl)
theorem dX9_starts_25 : decode cX9_starts 25 = .ok (.getfield 69, 3) := dk_180 0 69 (dk_at dksX9_starts_1 1 rfl rfl)
theorem dX9_starts_28 : decode cX9_starts 28 = .ok (.iload_n 1, 1) := dk_27 (dk_at dksX9_starts_1 4 rfl rfl)
theorem dX9_starts_29 : decode cX9_starts 29 = .ok (.iconst (-1), 1) := dk_2 (dk_at dksX9_starts_1 5 rfl rfl)
theorem dX9_starts_30 : decode cX9_starts 30 = .ok (.iastore, 1) := dk_79 (dk_at dksX9_starts_1 6 rfl rfl)
theorem dX9_starts_31 : decode cX9_starts 31 = .ok (.iinc 1 1, 3) := dk_132 1 1 (dk_at dksX9_starts_1 7 rfl rfl)
theorem dX9_starts_34 : decode cX9_starts 34 = .ok (.goto (-16), 3) := dk_167 255 240 (dk_at dksX9_starts_1 10 rfl rfl)
theorem dX9_starts_37 : decode cX9_starts 37 = .ok (.aload_n 0, 1) := dk_42 (dk_at dksX9_starts_1 13 rfl rfl)
theorem dX9_starts_38 : decode cX9_starts 38 = .ok (.getfield 69, 3) := dk_180 0 69 (dk_at dksX9_starts_1 14 rfl rfl)
theorem dX9_starts_41 : decode cX9_starts 41 = .ok (.aload_n 0, 1) := dk_42 (dk_at dksX9_starts_1 17 rfl rfl)
theorem dX9_starts_42 : decode cX9_starts 42 = .ok (.getfield 370, 3) := dk_180 1 114 (dk_at dksX9_starts_1 18 rfl rfl)
theorem dX9_starts_45 : decode cX9_starts 45 = .ok (.iconst 0, 1) := dk_3 (dk_at dksX9_starts_1 21 rfl rfl)
theorem dX9_starts_46 : decode cX9_starts 46 = .ok (.iastore, 1) := dk_79 (dk_at dksX9_starts_1 22 rfl rfl)
theorem dX9_starts_47 : decode cX9_starts 47 = .ok (.aload_n 0, 1) := dk_42 (dk_at dksX9_starts_1 23 rfl rfl)
theorem dX9_starts_48 : decode cX9_starts 48 = .ok (.getfield 72, 3) := dk_180 0 72 (dk_at dksX9_starts_2 0 rfl rfl)
theorem dX9_starts_51 : decode cX9_starts 51 = .ok (.iconst 0, 1) := dk_3 (dk_at dksX9_starts_2 3 rfl rfl)
theorem dX9_starts_52 : decode cX9_starts 52 = .ok (.aload_n 0, 1) := dk_42 (dk_at dksX9_starts_2 4 rfl rfl)
theorem dX9_starts_53 : decode cX9_starts 53 = .ok (.getfield 370, 3) := dk_180 1 114 (dk_at dksX9_starts_2 5 rfl rfl)
theorem dX9_starts_56 : decode cX9_starts 56 = .ok (.iastore, 1) := dk_79 (dk_at dksX9_starts_2 8 rfl rfl)
theorem dX9_starts_57 : decode cX9_starts 57 = .ok (.aload_n 0, 1) := dk_42 (dk_at dksX9_starts_2 9 rfl rfl)
theorem dX9_starts_58 : decode cX9_starts 58 = .ok (.iconst 1, 1) := dk_4 (dk_at dksX9_starts_2 10 rfl rfl)
theorem dX9_starts_59 : decode cX9_starts 59 = .ok (.putfield 373, 3) := dk_181 1 117 (dk_at dksX9_starts_2 11 rfl rfl)
theorem dX9_starts_62 : decode cX9_starts 62 = .ok (.return_, 1) := dk_177 (dk_at dksX9_starts_2 14 rfl rfl)
abbrev cX9_laysMoves : ByteArray := prog_21_method_93_code
def yX9_laysMoves : MethodName := ⟨RX9, "laysMoves", "()V"⟩
def dkwX9_laysMoves_7 : List UInt8 := [182, 1, 101, 132, 2, 1, 167, 255, 240, 177]
abbrev dktX9_laysMoves_7 : List UInt8 := dkwX9_laysMoves_7 ++ []
def dkwX9_laysMoves_6 : List UInt8 := [132, 3, 1, 167, 255, 235, 132, 2, 1, 167, 255, 222, 3, 61, 28, 27, 162, 0, 17, 42, 6, 28, 2, 2]
abbrev dktX9_laysMoves_6 : List UInt8 := dkwX9_laysMoves_6 ++ dktX9_laysMoves_7
def dkwX9_laysMoves_5 : List UInt8 := [162, 0, 35, 3, 62, 29, 42, 180, 0, 7, 6, 46, 162, 0, 17, 42, 5, 28, 2, 29, 182, 1, 101]
abbrev dktX9_laysMoves_5 : List UInt8 := dkwX9_laysMoves_5 ++ dktX9_laysMoves_6
def dkwX9_laysMoves_4 : List UInt8 := [132, 4, 1, 167, 255, 233, 132, 3, 1, 167, 255, 219, 132, 2, 1, 167, 255, 204, 3, 61, 28, 27]
abbrev dktX9_laysMoves_4 : List UInt8 := dkwX9_laysMoves_4 ++ dktX9_laysMoves_5
def dkwX9_laysMoves_3 : List UInt8 := [54, 4, 21, 4, 42, 180, 0, 7, 4, 46, 162, 0, 18, 42, 4, 28, 29, 21, 4, 182, 1, 101]
abbrev dktX9_laysMoves_3 : List UInt8 := dkwX9_laysMoves_3 ++ dktX9_laysMoves_4
def dkwX9_laysMoves_2 : List UInt8 := [132, 2, 1, 167, 255, 222, 3, 61, 28, 27, 162, 0, 53, 28, 4, 96, 62, 29, 27, 162, 0, 38, 3]
abbrev dktX9_laysMoves_2 : List UInt8 := dkwX9_laysMoves_2 ++ dktX9_laysMoves_3
def dkwX9_laysMoves_1 : List UInt8 := [180, 0, 7, 4, 46, 162, 0, 17, 42, 3, 28, 2, 29, 182, 1, 101, 132, 3, 1, 167, 255, 235]
abbrev dktX9_laysMoves_1 : List UInt8 := dkwX9_laysMoves_1 ++ dktX9_laysMoves_2
def dkwX9_laysMoves_0 : List UInt8 := [42, 3, 181, 1, 98, 42, 180, 0, 7, 5, 46, 60, 3, 61, 28, 27, 162, 0, 35, 3, 62, 29, 42]
abbrev dktX9_laysMoves_0 : List UInt8 := dkwX9_laysMoves_0 ++ dktX9_laysMoves_1
theorem dksX9_laysMoves_0 : cX9_laysMoves.data.toList.drop 0 = dktX9_laysMoves_0 := by decide +kernel
theorem dksX9_laysMoves_1 : cX9_laysMoves.data.toList.drop 23 = dktX9_laysMoves_1 := dk_seg dksX9_laysMoves_0 23 rfl rfl
theorem dksX9_laysMoves_2 : cX9_laysMoves.data.toList.drop 45 = dktX9_laysMoves_2 := dk_seg dksX9_laysMoves_1 22 rfl rfl
theorem dksX9_laysMoves_3 : cX9_laysMoves.data.toList.drop 68 = dktX9_laysMoves_3 := dk_seg dksX9_laysMoves_2 23 rfl rfl
theorem dksX9_laysMoves_4 : cX9_laysMoves.data.toList.drop 90 = dktX9_laysMoves_4 := dk_seg dksX9_laysMoves_3 22 rfl rfl
theorem dksX9_laysMoves_5 : cX9_laysMoves.data.toList.drop 112 = dktX9_laysMoves_5 := dk_seg dksX9_laysMoves_4 22 rfl rfl
theorem dksX9_laysMoves_6 : cX9_laysMoves.data.toList.drop 135 = dktX9_laysMoves_6 := dk_seg dksX9_laysMoves_5 23 rfl rfl
theorem dksX9_laysMoves_7 : cX9_laysMoves.data.toList.drop 159 = dktX9_laysMoves_7 := dk_seg dksX9_laysMoves_6 24 rfl rfl
theorem dX9_laysMoves_0 : decode cX9_laysMoves 0 = .ok (.aload_n 0, 1) := dk_42 (dk_at dksX9_laysMoves_0 0 rfl rfl)
theorem dX9_laysMoves_1 : decode cX9_laysMoves 1 = .ok (.iconst 0, 1) := dk_3 (dk_at dksX9_laysMoves_0 1 rfl rfl)
theorem dX9_laysMoves_2 : decode cX9_laysMoves 2 = .ok (.putfield 354, 3) := dk_181 1 98 (dk_at dksX9_laysMoves_0 2 rfl rfl)
theorem dX9_laysMoves_5 : decode cX9_laysMoves 5 = .ok (.aload_n 0, 1) := dk_42 (dk_at dksX9_laysMoves_0 5 rfl rfl)
theorem dX9_laysMoves_6 : decode cX9_laysMoves 6 = .ok (.getfield 7, 3) := dk_180 0 7 (dk_at dksX9_laysMoves_0 6 rfl rfl)
theorem dX9_laysMoves_9 : decode cX9_laysMoves 9 = .ok (.iconst 2, 1) := dk_5 (dk_at dksX9_laysMoves_0 9 rfl rfl)
theorem dX9_laysMoves_10 : decode cX9_laysMoves 10 = .ok (.iaload, 1) := dk_46 (dk_at dksX9_laysMoves_0 10 rfl rfl)
theorem dX9_laysMoves_11 : decode cX9_laysMoves 11 = .ok (.istore_n 1, 1) := dk_60 (dk_at dksX9_laysMoves_0 11 rfl rfl)
theorem dX9_laysMoves_12 : decode cX9_laysMoves 12 = .ok (.iconst 0, 1) := dk_3 (dk_at dksX9_laysMoves_0 12 rfl rfl)
theorem dX9_laysMoves_13 : decode cX9_laysMoves 13 = .ok (.istore_n 2, 1) := dk_61 (dk_at dksX9_laysMoves_0 13 rfl rfl)
theorem dX9_laysMoves_14 : decode cX9_laysMoves 14 = .ok (.iload_n 2, 1) := dk_28 (dk_at dksX9_laysMoves_0 14 rfl rfl)
theorem dX9_laysMoves_15 : decode cX9_laysMoves 15 = .ok (.iload_n 1, 1) := dk_27 (dk_at dksX9_laysMoves_0 15 rfl rfl)
theorem dX9_laysMoves_16 : decode cX9_laysMoves 16 = .ok (.if_icmp .ge 35, 3) := dk_162 0 35 (dk_at dksX9_laysMoves_0 16 rfl rfl)
theorem dX9_laysMoves_19 : decode cX9_laysMoves 19 = .ok (.iconst 0, 1) := dk_3 (dk_at dksX9_laysMoves_0 19 rfl rfl)
theorem dX9_laysMoves_20 : decode cX9_laysMoves 20 = .ok (.istore_n 3, 1) := dk_62 (dk_at dksX9_laysMoves_0 20 rfl rfl)
theorem dX9_laysMoves_21 : decode cX9_laysMoves 21 = .ok (.iload_n 3, 1) := dk_29 (dk_at dksX9_laysMoves_0 21 rfl rfl)
theorem dX9_laysMoves_22 : decode cX9_laysMoves 22 = .ok (.aload_n 0, 1) := dk_42 (dk_at dksX9_laysMoves_0 22 rfl rfl)
theorem dX9_laysMoves_23 : decode cX9_laysMoves 23 = .ok (.getfield 7, 3) := dk_180 0 7 (dk_at dksX9_laysMoves_1 0 rfl rfl)
theorem dX9_laysMoves_26 : decode cX9_laysMoves 26 = .ok (.iconst 1, 1) := dk_4 (dk_at dksX9_laysMoves_1 3 rfl rfl)
theorem dX9_laysMoves_27 : decode cX9_laysMoves 27 = .ok (.iaload, 1) := dk_46 (dk_at dksX9_laysMoves_1 4 rfl rfl)
theorem dX9_laysMoves_28 : decode cX9_laysMoves 28 = .ok (.if_icmp .ge 17, 3) := dk_162 0 17 (dk_at dksX9_laysMoves_1 5 rfl rfl)
theorem dX9_laysMoves_31 : decode cX9_laysMoves 31 = .ok (.aload_n 0, 1) := dk_42 (dk_at dksX9_laysMoves_1 8 rfl rfl)
theorem dX9_laysMoves_32 : decode cX9_laysMoves 32 = .ok (.iconst 0, 1) := dk_3 (dk_at dksX9_laysMoves_1 9 rfl rfl)
theorem dX9_laysMoves_33 : decode cX9_laysMoves 33 = .ok (.iload_n 2, 1) := dk_28 (dk_at dksX9_laysMoves_1 10 rfl rfl)
theorem dX9_laysMoves_34 : decode cX9_laysMoves 34 = .ok (.iconst (-1), 1) := dk_2 (dk_at dksX9_laysMoves_1 11 rfl rfl)
theorem dX9_laysMoves_35 : decode cX9_laysMoves 35 = .ok (.iload_n 3, 1) := dk_29 (dk_at dksX9_laysMoves_1 12 rfl rfl)
theorem dX9_laysMoves_36 : decode cX9_laysMoves 36 = .ok (.invokevirtual 357, 3) := dk_182 1 101 (dk_at dksX9_laysMoves_1 13 rfl rfl)
theorem dX9_laysMoves_39 : decode cX9_laysMoves 39 = .ok (.iinc 3 1, 3) := dk_132 3 1 (dk_at dksX9_laysMoves_1 16 rfl rfl)
theorem dX9_laysMoves_42 : decode cX9_laysMoves 42 = .ok (.goto (-21), 3) := dk_167 255 235 (dk_at dksX9_laysMoves_1 19 rfl rfl)
theorem dX9_laysMoves_45 : decode cX9_laysMoves 45 = .ok (.iinc 2 1, 3) := dk_132 2 1 (dk_at dksX9_laysMoves_2 0 rfl rfl)
theorem dX9_laysMoves_48 : decode cX9_laysMoves 48 = .ok (.goto (-34), 3) := dk_167 255 222 (dk_at dksX9_laysMoves_2 3 rfl rfl)
theorem dX9_laysMoves_51 : decode cX9_laysMoves 51 = .ok (.iconst 0, 1) := dk_3 (dk_at dksX9_laysMoves_2 6 rfl rfl)
theorem dX9_laysMoves_52 : decode cX9_laysMoves 52 = .ok (.istore_n 2, 1) := dk_61 (dk_at dksX9_laysMoves_2 7 rfl rfl)
theorem dX9_laysMoves_53 : decode cX9_laysMoves 53 = .ok (.iload_n 2, 1) := dk_28 (dk_at dksX9_laysMoves_2 8 rfl rfl)
theorem dX9_laysMoves_54 : decode cX9_laysMoves 54 = .ok (.iload_n 1, 1) := dk_27 (dk_at dksX9_laysMoves_2 9 rfl rfl)
theorem dX9_laysMoves_55 : decode cX9_laysMoves 55 = .ok (.if_icmp .ge 53, 3) := dk_162 0 53 (dk_at dksX9_laysMoves_2 10 rfl rfl)
theorem dX9_laysMoves_58 : decode cX9_laysMoves 58 = .ok (.iload_n 2, 1) := dk_28 (dk_at dksX9_laysMoves_2 13 rfl rfl)
theorem dX9_laysMoves_59 : decode cX9_laysMoves 59 = .ok (.iconst 1, 1) := dk_4 (dk_at dksX9_laysMoves_2 14 rfl rfl)
theorem dX9_laysMoves_60 : decode cX9_laysMoves 60 = .ok (.iadd, 1) := dk_96 (dk_at dksX9_laysMoves_2 15 rfl rfl)
theorem dX9_laysMoves_61 : decode cX9_laysMoves 61 = .ok (.istore_n 3, 1) := dk_62 (dk_at dksX9_laysMoves_2 16 rfl rfl)
theorem dX9_laysMoves_62 : decode cX9_laysMoves 62 = .ok (.iload_n 3, 1) := dk_29 (dk_at dksX9_laysMoves_2 17 rfl rfl)
theorem dX9_laysMoves_63 : decode cX9_laysMoves 63 = .ok (.iload_n 1, 1) := dk_27 (dk_at dksX9_laysMoves_2 18 rfl rfl)
theorem dX9_laysMoves_64 : decode cX9_laysMoves 64 = .ok (.if_icmp .ge 38, 3) := dk_162 0 38 (dk_at dksX9_laysMoves_2 19 rfl rfl)
theorem dX9_laysMoves_67 : decode cX9_laysMoves 67 = .ok (.iconst 0, 1) := dk_3 (dk_at dksX9_laysMoves_2 22 rfl rfl)
theorem dX9_laysMoves_68 : decode cX9_laysMoves 68 = .ok (.istore 4, 2) := dk_54 4 (dk_at dksX9_laysMoves_3 0 rfl rfl)
theorem dX9_laysMoves_70 : decode cX9_laysMoves 70 = .ok (.iload 4, 2) := dk_21 4 (dk_at dksX9_laysMoves_3 2 rfl rfl)
theorem dX9_laysMoves_72 : decode cX9_laysMoves 72 = .ok (.aload_n 0, 1) := dk_42 (dk_at dksX9_laysMoves_3 4 rfl rfl)
theorem dX9_laysMoves_73 : decode cX9_laysMoves 73 = .ok (.getfield 7, 3) := dk_180 0 7 (dk_at dksX9_laysMoves_3 5 rfl rfl)
theorem dX9_laysMoves_76 : decode cX9_laysMoves 76 = .ok (.iconst 1, 1) := dk_4 (dk_at dksX9_laysMoves_3 8 rfl rfl)
theorem dX9_laysMoves_77 : decode cX9_laysMoves 77 = .ok (.iaload, 1) := dk_46 (dk_at dksX9_laysMoves_3 9 rfl rfl)
theorem dX9_laysMoves_78 : decode cX9_laysMoves 78 = .ok (.if_icmp .ge 18, 3) := dk_162 0 18 (dk_at dksX9_laysMoves_3 10 rfl rfl)
theorem dX9_laysMoves_81 : decode cX9_laysMoves 81 = .ok (.aload_n 0, 1) := dk_42 (dk_at dksX9_laysMoves_3 13 rfl rfl)
theorem dX9_laysMoves_82 : decode cX9_laysMoves 82 = .ok (.iconst 1, 1) := dk_4 (dk_at dksX9_laysMoves_3 14 rfl rfl)
theorem dX9_laysMoves_83 : decode cX9_laysMoves 83 = .ok (.iload_n 2, 1) := dk_28 (dk_at dksX9_laysMoves_3 15 rfl rfl)
theorem dX9_laysMoves_84 : decode cX9_laysMoves 84 = .ok (.iload_n 3, 1) := dk_29 (dk_at dksX9_laysMoves_3 16 rfl rfl)
theorem dX9_laysMoves_85 : decode cX9_laysMoves 85 = .ok (.iload 4, 2) := dk_21 4 (dk_at dksX9_laysMoves_3 17 rfl rfl)
theorem dX9_laysMoves_87 : decode cX9_laysMoves 87 = .ok (.invokevirtual 357, 3) := dk_182 1 101 (dk_at dksX9_laysMoves_3 19 rfl rfl)
theorem dX9_laysMoves_90 : decode cX9_laysMoves 90 = .ok (.iinc 4 1, 3) := dk_132 4 1 (dk_at dksX9_laysMoves_4 0 rfl rfl)
theorem dX9_laysMoves_93 : decode cX9_laysMoves 93 = .ok (.goto (-23), 3) := dk_167 255 233 (dk_at dksX9_laysMoves_4 3 rfl rfl)
theorem dX9_laysMoves_96 : decode cX9_laysMoves 96 = .ok (.iinc 3 1, 3) := dk_132 3 1 (dk_at dksX9_laysMoves_4 6 rfl rfl)
theorem dX9_laysMoves_99 : decode cX9_laysMoves 99 = .ok (.goto (-37), 3) := dk_167 255 219 (dk_at dksX9_laysMoves_4 9 rfl rfl)
theorem dX9_laysMoves_102 : decode cX9_laysMoves 102 = .ok (.iinc 2 1, 3) := dk_132 2 1 (dk_at dksX9_laysMoves_4 12 rfl rfl)
theorem dX9_laysMoves_105 : decode cX9_laysMoves 105 = .ok (.goto (-52), 3) := dk_167 255 204 (dk_at dksX9_laysMoves_4 15 rfl rfl)
theorem dX9_laysMoves_108 : decode cX9_laysMoves 108 = .ok (.iconst 0, 1) := dk_3 (dk_at dksX9_laysMoves_4 18 rfl rfl)
theorem dX9_laysMoves_109 : decode cX9_laysMoves 109 = .ok (.istore_n 2, 1) := dk_61 (dk_at dksX9_laysMoves_4 19 rfl rfl)
theorem dX9_laysMoves_110 : decode cX9_laysMoves 110 = .ok (.iload_n 2, 1) := dk_28 (dk_at dksX9_laysMoves_4 20 rfl rfl)
theorem dX9_laysMoves_111 : decode cX9_laysMoves 111 = .ok (.iload_n 1, 1) := dk_27 (dk_at dksX9_laysMoves_4 21 rfl rfl)
theorem dX9_laysMoves_112 : decode cX9_laysMoves 112 = .ok (.if_icmp .ge 35, 3) := dk_162 0 35 (dk_at dksX9_laysMoves_5 0 rfl rfl)
theorem dX9_laysMoves_115 : decode cX9_laysMoves 115 = .ok (.iconst 0, 1) := dk_3 (dk_at dksX9_laysMoves_5 3 rfl rfl)
theorem dX9_laysMoves_116 : decode cX9_laysMoves 116 = .ok (.istore_n 3, 1) := dk_62 (dk_at dksX9_laysMoves_5 4 rfl rfl)
theorem dX9_laysMoves_117 : decode cX9_laysMoves 117 = .ok (.iload_n 3, 1) := dk_29 (dk_at dksX9_laysMoves_5 5 rfl rfl)
theorem dX9_laysMoves_118 : decode cX9_laysMoves 118 = .ok (.aload_n 0, 1) := dk_42 (dk_at dksX9_laysMoves_5 6 rfl rfl)
theorem dX9_laysMoves_119 : decode cX9_laysMoves 119 = .ok (.getfield 7, 3) := dk_180 0 7 (dk_at dksX9_laysMoves_5 7 rfl rfl)
theorem dX9_laysMoves_122 : decode cX9_laysMoves 122 = .ok (.iconst 3, 1) := dk_6 (dk_at dksX9_laysMoves_5 10 rfl rfl)
theorem dX9_laysMoves_123 : decode cX9_laysMoves 123 = .ok (.iaload, 1) := dk_46 (dk_at dksX9_laysMoves_5 11 rfl rfl)
theorem dX9_laysMoves_124 : decode cX9_laysMoves 124 = .ok (.if_icmp .ge 17, 3) := dk_162 0 17 (dk_at dksX9_laysMoves_5 12 rfl rfl)
theorem dX9_laysMoves_127 : decode cX9_laysMoves 127 = .ok (.aload_n 0, 1) := dk_42 (dk_at dksX9_laysMoves_5 15 rfl rfl)
theorem dX9_laysMoves_128 : decode cX9_laysMoves 128 = .ok (.iconst 2, 1) := dk_5 (dk_at dksX9_laysMoves_5 16 rfl rfl)
theorem dX9_laysMoves_129 : decode cX9_laysMoves 129 = .ok (.iload_n 2, 1) := dk_28 (dk_at dksX9_laysMoves_5 17 rfl rfl)
theorem dX9_laysMoves_130 : decode cX9_laysMoves 130 = .ok (.iconst (-1), 1) := dk_2 (dk_at dksX9_laysMoves_5 18 rfl rfl)
theorem dX9_laysMoves_131 : decode cX9_laysMoves 131 = .ok (.iload_n 3, 1) := dk_29 (dk_at dksX9_laysMoves_5 19 rfl rfl)
theorem dX9_laysMoves_132 : decode cX9_laysMoves 132 = .ok (.invokevirtual 357, 3) := dk_182 1 101 (dk_at dksX9_laysMoves_5 20 rfl rfl)
theorem dX9_laysMoves_135 : decode cX9_laysMoves 135 = .ok (.iinc 3 1, 3) := dk_132 3 1 (dk_at dksX9_laysMoves_6 0 rfl rfl)
theorem dX9_laysMoves_138 : decode cX9_laysMoves 138 = .ok (.goto (-21), 3) := dk_167 255 235 (dk_at dksX9_laysMoves_6 3 rfl rfl)
theorem dX9_laysMoves_141 : decode cX9_laysMoves 141 = .ok (.iinc 2 1, 3) := dk_132 2 1 (dk_at dksX9_laysMoves_6 6 rfl rfl)
theorem dX9_laysMoves_144 : decode cX9_laysMoves 144 = .ok (.goto (-34), 3) := dk_167 255 222 (dk_at dksX9_laysMoves_6 9 rfl rfl)
theorem dX9_laysMoves_147 : decode cX9_laysMoves 147 = .ok (.iconst 0, 1) := dk_3 (dk_at dksX9_laysMoves_6 12 rfl rfl)
theorem dX9_laysMoves_148 : decode cX9_laysMoves 148 = .ok (.istore_n 2, 1) := dk_61 (dk_at dksX9_laysMoves_6 13 rfl rfl)
theorem dX9_laysMoves_149 : decode cX9_laysMoves 149 = .ok (.iload_n 2, 1) := dk_28 (dk_at dksX9_laysMoves_6 14 rfl rfl)
theorem dX9_laysMoves_150 : decode cX9_laysMoves 150 = .ok (.iload_n 1, 1) := dk_27 (dk_at dksX9_laysMoves_6 15 rfl rfl)
theorem dX9_laysMoves_151 : decode cX9_laysMoves 151 = .ok (.if_icmp .ge 17, 3) := dk_162 0 17 (dk_at dksX9_laysMoves_6 16 rfl rfl)
theorem dX9_laysMoves_154 : decode cX9_laysMoves 154 = .ok (.aload_n 0, 1) := dk_42 (dk_at dksX9_laysMoves_6 19 rfl rfl)
theorem dX9_laysMoves_155 : decode cX9_laysMoves 155 = .ok (.iconst 3, 1) := dk_6 (dk_at dksX9_laysMoves_6 20 rfl rfl)
theorem dX9_laysMoves_156 : decode cX9_laysMoves 156 = .ok (.iload_n 2, 1) := dk_28 (dk_at dksX9_laysMoves_6 21 rfl rfl)
theorem dX9_laysMoves_157 : decode cX9_laysMoves 157 = .ok (.iconst (-1), 1) := dk_2 (dk_at dksX9_laysMoves_6 22 rfl rfl)
theorem dX9_laysMoves_158 : decode cX9_laysMoves 158 = .ok (.iconst (-1), 1) := dk_2 (dk_at dksX9_laysMoves_6 23 rfl rfl)
theorem dX9_laysMoves_159 : decode cX9_laysMoves 159 = .ok (.invokevirtual 357, 3) := dk_182 1 101 (dk_at dksX9_laysMoves_7 0 rfl rfl)
theorem dX9_laysMoves_162 : decode cX9_laysMoves 162 = .ok (.iinc 2 1, 3) := dk_132 2 1 (dk_at dksX9_laysMoves_7 3 rfl rfl)
theorem dX9_laysMoves_165 : decode cX9_laysMoves 165 = .ok (.goto (-16), 3) := dk_167 255 240 (dk_at dksX9_laysMoves_7 6 rfl rfl)
theorem dX9_laysMoves_168 : decode cX9_laysMoves 168 = .ok (.return_, 1) := dk_177 (dk_at dksX9_laysMoves_7 9 rfl rfl)
abbrev cX9_adds : ByteArray := prog_21_method_92_code
def yX9_adds : MethodName := ⟨RX9, "adds", "(IIII)V"⟩
def dkwX9_adds_2 : List UInt8 := [181, 1, 98, 177]
abbrev dktX9_adds_2 : List UInt8 := dkwX9_adds_2 ++ []
def dkwX9_adds_1 : List UInt8 := [42, 180, 1, 98, 29, 79, 42, 180, 0, 65, 42, 180, 1, 98, 21, 4, 79, 42, 89, 180, 1, 98, 4, 96]
abbrev dktX9_adds_1 : List UInt8 := dkwX9_adds_1 ++ dktX9_adds_2
def dkwX9_adds_0 : List UInt8 := [42, 180, 0, 56, 42, 180, 1, 98, 27, 79, 42, 180, 0, 59, 42, 180, 1, 98, 28, 79, 42, 180, 0, 62]
abbrev dktX9_adds_0 : List UInt8 := dkwX9_adds_0 ++ dktX9_adds_1
theorem dksX9_adds_0 : cX9_adds.data.toList.drop 0 = dktX9_adds_0 := by decide +kernel
theorem dksX9_adds_1 : cX9_adds.data.toList.drop 24 = dktX9_adds_1 := dk_seg dksX9_adds_0 24 rfl rfl
theorem dksX9_adds_2 : cX9_adds.data.toList.drop 48 = dktX9_adds_2 := dk_seg dksX9_adds_1 24 rfl rfl
theorem dX9_adds_0 : decode cX9_adds 0 = .ok (.aload_n 0, 1) := dk_42 (dk_at dksX9_adds_0 0 rfl rfl)
theorem dX9_adds_1 : decode cX9_adds 1 = .ok (.getfield 56, 3) := dk_180 0 56 (dk_at dksX9_adds_0 1 rfl rfl)
theorem dX9_adds_4 : decode cX9_adds 4 = .ok (.aload_n 0, 1) := dk_42 (dk_at dksX9_adds_0 4 rfl rfl)
theorem dX9_adds_5 : decode cX9_adds 5 = .ok (.getfield 354, 3) := dk_180 1 98 (dk_at dksX9_adds_0 5 rfl rfl)
theorem dX9_adds_8 : decode cX9_adds 8 = .ok (.iload_n 1, 1) := dk_27 (dk_at dksX9_adds_0 8 rfl rfl)
theorem dX9_adds_9 : decode cX9_adds 9 = .ok (.iastore, 1) := dk_79 (dk_at dksX9_adds_0 9 rfl rfl)
theorem dX9_adds_10 : decode cX9_adds 10 = .ok (.aload_n 0, 1) := dk_42 (dk_at dksX9_adds_0 10 rfl rfl)
theorem dX9_adds_11 : decode cX9_adds 11 = .ok (.getfield 59, 3) := dk_180 0 59 (dk_at dksX9_adds_0 11 rfl rfl)
theorem dX9_adds_14 : decode cX9_adds 14 = .ok (.aload_n 0, 1) := dk_42 (dk_at dksX9_adds_0 14 rfl rfl)
theorem dX9_adds_15 : decode cX9_adds 15 = .ok (.getfield 354, 3) := dk_180 1 98 (dk_at dksX9_adds_0 15 rfl rfl)
theorem dX9_adds_18 : decode cX9_adds 18 = .ok (.iload_n 2, 1) := dk_28 (dk_at dksX9_adds_0 18 rfl rfl)
theorem dX9_adds_19 : decode cX9_adds 19 = .ok (.iastore, 1) := dk_79 (dk_at dksX9_adds_0 19 rfl rfl)
theorem dX9_adds_20 : decode cX9_adds 20 = .ok (.aload_n 0, 1) := dk_42 (dk_at dksX9_adds_0 20 rfl rfl)
theorem dX9_adds_21 : decode cX9_adds 21 = .ok (.getfield 62, 3) := dk_180 0 62 (dk_at dksX9_adds_0 21 rfl rfl)
theorem dX9_adds_24 : decode cX9_adds 24 = .ok (.aload_n 0, 1) := dk_42 (dk_at dksX9_adds_1 0 rfl rfl)
theorem dX9_adds_25 : decode cX9_adds 25 = .ok (.getfield 354, 3) := dk_180 1 98 (dk_at dksX9_adds_1 1 rfl rfl)
theorem dX9_adds_28 : decode cX9_adds 28 = .ok (.iload_n 3, 1) := dk_29 (dk_at dksX9_adds_1 4 rfl rfl)
theorem dX9_adds_29 : decode cX9_adds 29 = .ok (.iastore, 1) := dk_79 (dk_at dksX9_adds_1 5 rfl rfl)
theorem dX9_adds_30 : decode cX9_adds 30 = .ok (.aload_n 0, 1) := dk_42 (dk_at dksX9_adds_1 6 rfl rfl)
theorem dX9_adds_31 : decode cX9_adds 31 = .ok (.getfield 65, 3) := dk_180 0 65 (dk_at dksX9_adds_1 7 rfl rfl)
theorem dX9_adds_34 : decode cX9_adds 34 = .ok (.aload_n 0, 1) := dk_42 (dk_at dksX9_adds_1 10 rfl rfl)
theorem dX9_adds_35 : decode cX9_adds 35 = .ok (.getfield 354, 3) := dk_180 1 98 (dk_at dksX9_adds_1 11 rfl rfl)
theorem dX9_adds_38 : decode cX9_adds 38 = .ok (.iload 4, 2) := dk_21 4 (dk_at dksX9_adds_1 14 rfl rfl)
theorem dX9_adds_40 : decode cX9_adds 40 = .ok (.iastore, 1) := dk_79 (dk_at dksX9_adds_1 16 rfl rfl)
theorem dX9_adds_41 : decode cX9_adds 41 = .ok (.aload_n 0, 1) := dk_42 (dk_at dksX9_adds_1 17 rfl rfl)
theorem dX9_adds_42 : decode cX9_adds 42 = .ok (.dup, 1) := dk_89 (dk_at dksX9_adds_1 18 rfl rfl)
theorem dX9_adds_43 : decode cX9_adds 43 = .ok (.getfield 354, 3) := dk_180 1 98 (dk_at dksX9_adds_1 19 rfl rfl)
theorem dX9_adds_46 : decode cX9_adds 46 = .ok (.iconst 1, 1) := dk_4 (dk_at dksX9_adds_1 22 rfl rfl)
theorem dX9_adds_47 : decode cX9_adds 47 = .ok (.iadd, 1) := dk_96 (dk_at dksX9_adds_1 23 rfl rfl)
theorem dX9_adds_48 : decode cX9_adds 48 = .ok (.putfield 354, 3) := dk_181 1 98 (dk_at dksX9_adds_2 0 rfl rfl)
theorem dX9_adds_51 : decode cX9_adds 51 = .ok (.return_, 1) := dk_177 (dk_at dksX9_adds_2 3 rfl rfl)
abbrev cX9_code : ByteArray := prog_21_method_67_code
def yX9_code : MethodName := ⟨RX9, "code", "()I"⟩
def dkwX9_code_2 : List UInt8 := [27, 104, 42, 180, 0, 50, 28, 46, 96, 60, 132, 2, 255, 167, 255, 237, 27, 172]
abbrev dktX9_code_2 : List UInt8 := dkwX9_code_2 ++ []
def dkwX9_code_1 : List UInt8 := [46, 96, 60, 132, 2, 255, 167, 255, 237, 42, 180, 0, 7, 6, 46, 4, 100, 61, 28, 155, 0, 21, 16, 10]
abbrev dktX9_code_1 : List UInt8 := dkwX9_code_1 ++ dktX9_code_2
def dkwX9_code_0 : List UInt8 := [3, 60, 42, 180, 0, 7, 5, 46, 4, 100, 61, 28, 155, 0, 21, 16, 6, 27, 104, 42, 180, 0, 47, 28]
abbrev dktX9_code_0 : List UInt8 := dkwX9_code_0 ++ dktX9_code_1
theorem dksX9_code_0 : cX9_code.data.toList.drop 0 = dktX9_code_0 := by decide +kernel
theorem dksX9_code_1 : cX9_code.data.toList.drop 24 = dktX9_code_1 := dk_seg dksX9_code_0 24 rfl rfl
theorem dksX9_code_2 : cX9_code.data.toList.drop 48 = dktX9_code_2 := dk_seg dksX9_code_1 24 rfl rfl
theorem dX9_code_0 : decode cX9_code 0 = .ok (.iconst 0, 1) := dk_3 (dk_at dksX9_code_0 0 rfl rfl)
theorem dX9_code_1 : decode cX9_code 1 = .ok (.istore_n 1, 1) := dk_60 (dk_at dksX9_code_0 1 rfl rfl)
theorem dX9_code_2 : decode cX9_code 2 = .ok (.aload_n 0, 1) := dk_42 (dk_at dksX9_code_0 2 rfl rfl)
theorem dX9_code_3 : decode cX9_code 3 = .ok (.getfield 7, 3) := dk_180 0 7 (dk_at dksX9_code_0 3 rfl rfl)
theorem dX9_code_6 : decode cX9_code 6 = .ok (.iconst 2, 1) := dk_5 (dk_at dksX9_code_0 6 rfl rfl)
theorem dX9_code_7 : decode cX9_code 7 = .ok (.iaload, 1) := dk_46 (dk_at dksX9_code_0 7 rfl rfl)
theorem dX9_code_8 : decode cX9_code 8 = .ok (.iconst 1, 1) := dk_4 (dk_at dksX9_code_0 8 rfl rfl)
theorem dX9_code_9 : decode cX9_code 9 = .ok (.isub, 1) := dk_100 (dk_at dksX9_code_0 9 rfl rfl)
theorem dX9_code_10 : decode cX9_code 10 = .ok (.istore_n 2, 1) := dk_61 (dk_at dksX9_code_0 10 rfl rfl)
theorem dX9_code_11 : decode cX9_code 11 = .ok (.iload_n 2, 1) := dk_28 (dk_at dksX9_code_0 11 rfl rfl)
theorem dX9_code_12 : decode cX9_code 12 = .ok (.ifCond .lt 21, 3) := dk_155 0 21 (dk_at dksX9_code_0 12 rfl rfl)
theorem dX9_code_15 : decode cX9_code 15 = .ok (.bipush 6, 2) := dk_16 6 (dk_at dksX9_code_0 15 rfl rfl)
theorem dX9_code_17 : decode cX9_code 17 = .ok (.iload_n 1, 1) := dk_27 (dk_at dksX9_code_0 17 rfl rfl)
theorem dX9_code_18 : decode cX9_code 18 = .ok (.imul, 1) := dk_104 (dk_at dksX9_code_0 18 rfl rfl)
theorem dX9_code_19 : decode cX9_code 19 = .ok (.aload_n 0, 1) := dk_42 (dk_at dksX9_code_0 19 rfl rfl)
theorem dX9_code_20 : decode cX9_code 20 = .ok (.getfield 47, 3) := dk_180 0 47 (dk_at dksX9_code_0 20 rfl rfl)
theorem dX9_code_23 : decode cX9_code 23 = .ok (.iload_n 2, 1) := dk_28 (dk_at dksX9_code_0 23 rfl rfl)
theorem dX9_code_24 : decode cX9_code 24 = .ok (.iaload, 1) := dk_46 (dk_at dksX9_code_1 0 rfl rfl)
theorem dX9_code_25 : decode cX9_code 25 = .ok (.iadd, 1) := dk_96 (dk_at dksX9_code_1 1 rfl rfl)
theorem dX9_code_26 : decode cX9_code 26 = .ok (.istore_n 1, 1) := dk_60 (dk_at dksX9_code_1 2 rfl rfl)
theorem dX9_code_27 : decode cX9_code 27 = .ok (.iinc 2 (-1), 3) := dk_132 2 255 (dk_at dksX9_code_1 3 rfl rfl)
theorem dX9_code_30 : decode cX9_code 30 = .ok (.goto (-19), 3) := dk_167 255 237 (dk_at dksX9_code_1 6 rfl rfl)
theorem dX9_code_33 : decode cX9_code 33 = .ok (.aload_n 0, 1) := dk_42 (dk_at dksX9_code_1 9 rfl rfl)
theorem dX9_code_34 : decode cX9_code 34 = .ok (.getfield 7, 3) := dk_180 0 7 (dk_at dksX9_code_1 10 rfl rfl)
theorem dX9_code_37 : decode cX9_code 37 = .ok (.iconst 3, 1) := dk_6 (dk_at dksX9_code_1 13 rfl rfl)
theorem dX9_code_38 : decode cX9_code 38 = .ok (.iaload, 1) := dk_46 (dk_at dksX9_code_1 14 rfl rfl)
theorem dX9_code_39 : decode cX9_code 39 = .ok (.iconst 1, 1) := dk_4 (dk_at dksX9_code_1 15 rfl rfl)
theorem dX9_code_40 : decode cX9_code 40 = .ok (.isub, 1) := dk_100 (dk_at dksX9_code_1 16 rfl rfl)
theorem dX9_code_41 : decode cX9_code 41 = .ok (.istore_n 2, 1) := dk_61 (dk_at dksX9_code_1 17 rfl rfl)
theorem dX9_code_42 : decode cX9_code 42 = .ok (.iload_n 2, 1) := dk_28 (dk_at dksX9_code_1 18 rfl rfl)
theorem dX9_code_43 : decode cX9_code 43 = .ok (.ifCond .lt 21, 3) := dk_155 0 21 (dk_at dksX9_code_1 19 rfl rfl)
theorem dX9_code_46 : decode cX9_code 46 = .ok (.bipush 10, 2) := dk_16 10 (dk_at dksX9_code_1 22 rfl rfl)
theorem dX9_code_48 : decode cX9_code 48 = .ok (.iload_n 1, 1) := dk_27 (dk_at dksX9_code_2 0 rfl rfl)
theorem dX9_code_49 : decode cX9_code 49 = .ok (.imul, 1) := dk_104 (dk_at dksX9_code_2 1 rfl rfl)
theorem dX9_code_50 : decode cX9_code 50 = .ok (.aload_n 0, 1) := dk_42 (dk_at dksX9_code_2 2 rfl rfl)
theorem dX9_code_51 : decode cX9_code 51 = .ok (.getfield 50, 3) := dk_180 0 50 (dk_at dksX9_code_2 3 rfl rfl)
theorem dX9_code_54 : decode cX9_code 54 = .ok (.iload_n 2, 1) := dk_28 (dk_at dksX9_code_2 6 rfl rfl)
theorem dX9_code_55 : decode cX9_code 55 = .ok (.iaload, 1) := dk_46 (dk_at dksX9_code_2 7 rfl rfl)
theorem dX9_code_56 : decode cX9_code 56 = .ok (.iadd, 1) := dk_96 (dk_at dksX9_code_2 8 rfl rfl)
theorem dX9_code_57 : decode cX9_code 57 = .ok (.istore_n 1, 1) := dk_60 (dk_at dksX9_code_2 9 rfl rfl)
theorem dX9_code_58 : decode cX9_code 58 = .ok (.iinc 2 (-1), 3) := dk_132 2 255 (dk_at dksX9_code_2 10 rfl rfl)
theorem dX9_code_61 : decode cX9_code 61 = .ok (.goto (-19), 3) := dk_167 255 237 (dk_at dksX9_code_2 13 rfl rfl)
theorem dX9_code_64 : decode cX9_code 64 = .ok (.iload_n 1, 1) := dk_27 (dk_at dksX9_code_2 16 rfl rfl)
theorem dX9_code_65 : decode cX9_code 65 = .ok (.ireturn, 1) := dk_172 (dk_at dksX9_code_2 17 rfl rfl)
abbrev cX9_moved : ByteArray := prog_21_method_94_code
def yX9_moved : MethodName := ⟨RX9, "moved", "(II)I"⟩
def dkwX9_moved_3 : List UInt8 := [180, 0, 59, 28, 46, 182, 1, 95, 62, 29, 153, 0, 10, 42, 182, 1, 108, 167, 0, 4, 2, 172]
abbrev dktX9_moved_3 : List UInt8 := dkwX9_moved_3 ++ []
def dkwX9_moved_2 : List UInt8 := [160, 0, 22, 42, 42, 180, 0, 59, 28, 46, 42, 180, 0, 65, 28, 46, 182, 1, 92, 167, 0, 13, 42, 42]
abbrev dktX9_moved_2 : List UInt8 := dkwX9_moved_2 ++ dktX9_moved_3
def dkwX9_moved_1 : List UInt8 := [180, 0, 62, 28, 46, 42, 180, 0, 65, 28, 46, 182, 1, 82, 167, 0, 42, 42, 180, 0, 56, 28, 46, 5]
abbrev dktX9_moved_1 : List UInt8 := dkwX9_moved_1 ++ dktX9_moved_2
def dkwX9_moved_0 : List UInt8 := [42, 27, 182, 1, 105, 42, 180, 0, 56, 28, 46, 5, 162, 0, 28, 42, 42, 180, 0, 59, 28, 46, 42]
abbrev dktX9_moved_0 : List UInt8 := dkwX9_moved_0 ++ dktX9_moved_1
theorem dksX9_moved_0 : cX9_moved.data.toList.drop 0 = dktX9_moved_0 := by decide +kernel
theorem dksX9_moved_1 : cX9_moved.data.toList.drop 23 = dktX9_moved_1 := dk_seg dksX9_moved_0 23 rfl rfl
theorem dksX9_moved_2 : cX9_moved.data.toList.drop 47 = dktX9_moved_2 := dk_seg dksX9_moved_1 24 rfl rfl
theorem dksX9_moved_3 : cX9_moved.data.toList.drop 71 = dktX9_moved_3 := dk_seg dksX9_moved_2 24 rfl rfl
theorem dX9_moved_0 : decode cX9_moved 0 = .ok (.aload_n 0, 1) := dk_42 (dk_at dksX9_moved_0 0 rfl rfl)
theorem dX9_moved_1 : decode cX9_moved 1 = .ok (.iload_n 1, 1) := dk_27 (dk_at dksX9_moved_0 1 rfl rfl)
theorem dX9_moved_2 : decode cX9_moved 2 = .ok (.invokevirtual 361, 3) := dk_182 1 105 (dk_at dksX9_moved_0 2 rfl rfl)
theorem dX9_moved_5 : decode cX9_moved 5 = .ok (.aload_n 0, 1) := dk_42 (dk_at dksX9_moved_0 5 rfl rfl)
theorem dX9_moved_6 : decode cX9_moved 6 = .ok (.getfield 56, 3) := dk_180 0 56 (dk_at dksX9_moved_0 6 rfl rfl)
theorem dX9_moved_9 : decode cX9_moved 9 = .ok (.iload_n 2, 1) := dk_28 (dk_at dksX9_moved_0 9 rfl rfl)
theorem dX9_moved_10 : decode cX9_moved 10 = .ok (.iaload, 1) := dk_46 (dk_at dksX9_moved_0 10 rfl rfl)
theorem dX9_moved_11 : decode cX9_moved 11 = .ok (.iconst 2, 1) := dk_5 (dk_at dksX9_moved_0 11 rfl rfl)
theorem dX9_moved_12 : decode cX9_moved 12 = .ok (.if_icmp .ge 28, 3) := dk_162 0 28 (dk_at dksX9_moved_0 12 rfl rfl)
theorem dX9_moved_15 : decode cX9_moved 15 = .ok (.aload_n 0, 1) := dk_42 (dk_at dksX9_moved_0 15 rfl rfl)
theorem dX9_moved_16 : decode cX9_moved 16 = .ok (.aload_n 0, 1) := dk_42 (dk_at dksX9_moved_0 16 rfl rfl)
theorem dX9_moved_17 : decode cX9_moved 17 = .ok (.getfield 59, 3) := dk_180 0 59 (dk_at dksX9_moved_0 17 rfl rfl)
theorem dX9_moved_20 : decode cX9_moved 20 = .ok (.iload_n 2, 1) := dk_28 (dk_at dksX9_moved_0 20 rfl rfl)
theorem dX9_moved_21 : decode cX9_moved 21 = .ok (.iaload, 1) := dk_46 (dk_at dksX9_moved_0 21 rfl rfl)
theorem dX9_moved_22 : decode cX9_moved 22 = .ok (.aload_n 0, 1) := dk_42 (dk_at dksX9_moved_0 22 rfl rfl)
theorem dX9_moved_23 : decode cX9_moved 23 = .ok (.getfield 62, 3) := dk_180 0 62 (dk_at dksX9_moved_1 0 rfl rfl)
theorem dX9_moved_26 : decode cX9_moved 26 = .ok (.iload_n 2, 1) := dk_28 (dk_at dksX9_moved_1 3 rfl rfl)
theorem dX9_moved_27 : decode cX9_moved 27 = .ok (.iaload, 1) := dk_46 (dk_at dksX9_moved_1 4 rfl rfl)
theorem dX9_moved_28 : decode cX9_moved 28 = .ok (.aload_n 0, 1) := dk_42 (dk_at dksX9_moved_1 5 rfl rfl)
theorem dX9_moved_29 : decode cX9_moved 29 = .ok (.getfield 65, 3) := dk_180 0 65 (dk_at dksX9_moved_1 6 rfl rfl)
theorem dX9_moved_32 : decode cX9_moved 32 = .ok (.iload_n 2, 1) := dk_28 (dk_at dksX9_moved_1 9 rfl rfl)
theorem dX9_moved_33 : decode cX9_moved 33 = .ok (.iaload, 1) := dk_46 (dk_at dksX9_moved_1 10 rfl rfl)
theorem dX9_moved_34 : decode cX9_moved 34 = .ok (.invokevirtual 338, 3) := dk_182 1 82 (dk_at dksX9_moved_1 11 rfl rfl)
theorem dX9_moved_37 : decode cX9_moved 37 = .ok (.goto 42, 3) := dk_167 0 42 (dk_at dksX9_moved_1 14 rfl rfl)
theorem dX9_moved_40 : decode cX9_moved 40 = .ok (.aload_n 0, 1) := dk_42 (dk_at dksX9_moved_1 17 rfl rfl)
theorem dX9_moved_41 : decode cX9_moved 41 = .ok (.getfield 56, 3) := dk_180 0 56 (dk_at dksX9_moved_1 18 rfl rfl)
theorem dX9_moved_44 : decode cX9_moved 44 = .ok (.iload_n 2, 1) := dk_28 (dk_at dksX9_moved_1 21 rfl rfl)
theorem dX9_moved_45 : decode cX9_moved 45 = .ok (.iaload, 1) := dk_46 (dk_at dksX9_moved_1 22 rfl rfl)
theorem dX9_moved_46 : decode cX9_moved 46 = .ok (.iconst 2, 1) := dk_5 (dk_at dksX9_moved_1 23 rfl rfl)
theorem dX9_moved_47 : decode cX9_moved 47 = .ok (.if_icmp .ne 22, 3) := dk_160 0 22 (dk_at dksX9_moved_2 0 rfl rfl)
theorem dX9_moved_50 : decode cX9_moved 50 = .ok (.aload_n 0, 1) := dk_42 (dk_at dksX9_moved_2 3 rfl rfl)
theorem dX9_moved_51 : decode cX9_moved 51 = .ok (.aload_n 0, 1) := dk_42 (dk_at dksX9_moved_2 4 rfl rfl)
theorem dX9_moved_52 : decode cX9_moved 52 = .ok (.getfield 59, 3) := dk_180 0 59 (dk_at dksX9_moved_2 5 rfl rfl)
theorem dX9_moved_55 : decode cX9_moved 55 = .ok (.iload_n 2, 1) := dk_28 (dk_at dksX9_moved_2 8 rfl rfl)
theorem dX9_moved_56 : decode cX9_moved 56 = .ok (.iaload, 1) := dk_46 (dk_at dksX9_moved_2 9 rfl rfl)
theorem dX9_moved_57 : decode cX9_moved 57 = .ok (.aload_n 0, 1) := dk_42 (dk_at dksX9_moved_2 10 rfl rfl)
theorem dX9_moved_58 : decode cX9_moved 58 = .ok (.getfield 65, 3) := dk_180 0 65 (dk_at dksX9_moved_2 11 rfl rfl)
theorem dX9_moved_61 : decode cX9_moved 61 = .ok (.iload_n 2, 1) := dk_28 (dk_at dksX9_moved_2 14 rfl rfl)
theorem dX9_moved_62 : decode cX9_moved 62 = .ok (.iaload, 1) := dk_46 (dk_at dksX9_moved_2 15 rfl rfl)
theorem dX9_moved_63 : decode cX9_moved 63 = .ok (.invokevirtual 348, 3) := dk_182 1 92 (dk_at dksX9_moved_2 16 rfl rfl)
theorem dX9_moved_66 : decode cX9_moved 66 = .ok (.goto 13, 3) := dk_167 0 13 (dk_at dksX9_moved_2 19 rfl rfl)
theorem dX9_moved_69 : decode cX9_moved 69 = .ok (.aload_n 0, 1) := dk_42 (dk_at dksX9_moved_2 22 rfl rfl)
theorem dX9_moved_70 : decode cX9_moved 70 = .ok (.aload_n 0, 1) := dk_42 (dk_at dksX9_moved_2 23 rfl rfl)
theorem dX9_moved_71 : decode cX9_moved 71 = .ok (.getfield 59, 3) := dk_180 0 59 (dk_at dksX9_moved_3 0 rfl rfl)
theorem dX9_moved_74 : decode cX9_moved 74 = .ok (.iload_n 2, 1) := dk_28 (dk_at dksX9_moved_3 3 rfl rfl)
theorem dX9_moved_75 : decode cX9_moved 75 = .ok (.iaload, 1) := dk_46 (dk_at dksX9_moved_3 4 rfl rfl)
theorem dX9_moved_76 : decode cX9_moved 76 = .ok (.invokevirtual 351, 3) := dk_182 1 95 (dk_at dksX9_moved_3 5 rfl rfl)
theorem dX9_moved_79 : decode cX9_moved 79 = .ok (.istore_n 3, 1) := dk_62 (dk_at dksX9_moved_3 8 rfl rfl)
theorem dX9_moved_80 : decode cX9_moved 80 = .ok (.iload_n 3, 1) := dk_29 (dk_at dksX9_moved_3 9 rfl rfl)
theorem dX9_moved_81 : decode cX9_moved 81 = .ok (.ifCond .eq 10, 3) := dk_153 0 10 (dk_at dksX9_moved_3 10 rfl rfl)
theorem dX9_moved_84 : decode cX9_moved 84 = .ok (.aload_n 0, 1) := dk_42 (dk_at dksX9_moved_3 13 rfl rfl)
theorem dX9_moved_85 : decode cX9_moved 85 = .ok (.invokevirtual 364, 3) := dk_182 1 108 (dk_at dksX9_moved_3 14 rfl rfl)
theorem dX9_moved_88 : decode cX9_moved 88 = .ok (.goto 4, 3) := dk_167 0 4 (dk_at dksX9_moved_3 17 rfl rfl)
theorem dX9_moved_91 : decode cX9_moved 91 = .ok (.iconst (-1), 1) := dk_2 (dk_at dksX9_moved_3 20 rfl rfl)
theorem dX9_moved_92 : decode cX9_moved 92 = .ok (.ireturn, 1) := dk_172 (dk_at dksX9_moved_3 21 rfl rfl)
abbrev cX9_opens : ByteArray := prog_21_method_68_code
def yX9_opens : MethodName := ⟨RX9, "opens", "(I)V"⟩
def dkwX9_opens_2 : List UInt8 := [180, 0, 47, 29, 28, 16, 6, 112, 79, 28, 16, 6, 108, 61, 132, 3, 1, 167, 255, 228, 177]
abbrev dktX9_opens_2 : List UInt8 := dkwX9_opens_2 ++ []
def dkwX9_opens_1 : List UInt8 := [28, 16, 10, 108, 61, 132, 3, 1, 167, 255, 228, 3, 62, 29, 42, 180, 0, 7, 5, 46, 162, 0, 24, 42]
abbrev dktX9_opens_1 : List UInt8 := dkwX9_opens_1 ++ dktX9_opens_2
def dkwX9_opens_0 : List UInt8 := [27, 61, 3, 62, 29, 42, 180, 0, 7, 6, 46, 162, 0, 24, 42, 180, 0, 50, 29, 28, 16, 10, 112, 79]
abbrev dktX9_opens_0 : List UInt8 := dkwX9_opens_0 ++ dktX9_opens_1
theorem dksX9_opens_0 : cX9_opens.data.toList.drop 0 = dktX9_opens_0 := by decide +kernel
theorem dksX9_opens_1 : cX9_opens.data.toList.drop 24 = dktX9_opens_1 := dk_seg dksX9_opens_0 24 rfl rfl
theorem dksX9_opens_2 : cX9_opens.data.toList.drop 48 = dktX9_opens_2 := dk_seg dksX9_opens_1 24 rfl rfl
theorem dX9_opens_0 : decode cX9_opens 0 = .ok (.iload_n 1, 1) := dk_27 (dk_at dksX9_opens_0 0 rfl rfl)
theorem dX9_opens_1 : decode cX9_opens 1 = .ok (.istore_n 2, 1) := dk_61 (dk_at dksX9_opens_0 1 rfl rfl)
theorem dX9_opens_2 : decode cX9_opens 2 = .ok (.iconst 0, 1) := dk_3 (dk_at dksX9_opens_0 2 rfl rfl)
theorem dX9_opens_3 : decode cX9_opens 3 = .ok (.istore_n 3, 1) := dk_62 (dk_at dksX9_opens_0 3 rfl rfl)
theorem dX9_opens_4 : decode cX9_opens 4 = .ok (.iload_n 3, 1) := dk_29 (dk_at dksX9_opens_0 4 rfl rfl)
theorem dX9_opens_5 : decode cX9_opens 5 = .ok (.aload_n 0, 1) := dk_42 (dk_at dksX9_opens_0 5 rfl rfl)
theorem dX9_opens_6 : decode cX9_opens 6 = .ok (.getfield 7, 3) := dk_180 0 7 (dk_at dksX9_opens_0 6 rfl rfl)
theorem dX9_opens_9 : decode cX9_opens 9 = .ok (.iconst 3, 1) := dk_6 (dk_at dksX9_opens_0 9 rfl rfl)
theorem dX9_opens_10 : decode cX9_opens 10 = .ok (.iaload, 1) := dk_46 (dk_at dksX9_opens_0 10 rfl rfl)
theorem dX9_opens_11 : decode cX9_opens 11 = .ok (.if_icmp .ge 24, 3) := dk_162 0 24 (dk_at dksX9_opens_0 11 rfl rfl)
theorem dX9_opens_14 : decode cX9_opens 14 = .ok (.aload_n 0, 1) := dk_42 (dk_at dksX9_opens_0 14 rfl rfl)
theorem dX9_opens_15 : decode cX9_opens 15 = .ok (.getfield 50, 3) := dk_180 0 50 (dk_at dksX9_opens_0 15 rfl rfl)
theorem dX9_opens_18 : decode cX9_opens 18 = .ok (.iload_n 3, 1) := dk_29 (dk_at dksX9_opens_0 18 rfl rfl)
theorem dX9_opens_19 : decode cX9_opens 19 = .ok (.iload_n 2, 1) := dk_28 (dk_at dksX9_opens_0 19 rfl rfl)
theorem dX9_opens_20 : decode cX9_opens 20 = .ok (.bipush 10, 2) := dk_16 10 (dk_at dksX9_opens_0 20 rfl rfl)
theorem dX9_opens_22 : decode cX9_opens 22 = .ok (.irem, 1) := dk_112 (dk_at dksX9_opens_0 22 rfl rfl)
theorem dX9_opens_23 : decode cX9_opens 23 = .ok (.iastore, 1) := dk_79 (dk_at dksX9_opens_0 23 rfl rfl)
theorem dX9_opens_24 : decode cX9_opens 24 = .ok (.iload_n 2, 1) := dk_28 (dk_at dksX9_opens_1 0 rfl rfl)
theorem dX9_opens_25 : decode cX9_opens 25 = .ok (.bipush 10, 2) := dk_16 10 (dk_at dksX9_opens_1 1 rfl rfl)
theorem dX9_opens_27 : decode cX9_opens 27 = .ok (.idiv, 1) := dk_108 (dk_at dksX9_opens_1 3 rfl rfl)
theorem dX9_opens_28 : decode cX9_opens 28 = .ok (.istore_n 2, 1) := dk_61 (dk_at dksX9_opens_1 4 rfl rfl)
theorem dX9_opens_29 : decode cX9_opens 29 = .ok (.iinc 3 1, 3) := dk_132 3 1 (dk_at dksX9_opens_1 5 rfl rfl)
theorem dX9_opens_32 : decode cX9_opens 32 = .ok (.goto (-28), 3) := dk_167 255 228 (dk_at dksX9_opens_1 8 rfl rfl)
theorem dX9_opens_35 : decode cX9_opens 35 = .ok (.iconst 0, 1) := dk_3 (dk_at dksX9_opens_1 11 rfl rfl)
theorem dX9_opens_36 : decode cX9_opens 36 = .ok (.istore_n 3, 1) := dk_62 (dk_at dksX9_opens_1 12 rfl rfl)
theorem dX9_opens_37 : decode cX9_opens 37 = .ok (.iload_n 3, 1) := dk_29 (dk_at dksX9_opens_1 13 rfl rfl)
theorem dX9_opens_38 : decode cX9_opens 38 = .ok (.aload_n 0, 1) := dk_42 (dk_at dksX9_opens_1 14 rfl rfl)
theorem dX9_opens_39 : decode cX9_opens 39 = .ok (.getfield 7, 3) := dk_180 0 7 (dk_at dksX9_opens_1 15 rfl rfl)
theorem dX9_opens_42 : decode cX9_opens 42 = .ok (.iconst 2, 1) := dk_5 (dk_at dksX9_opens_1 18 rfl rfl)
theorem dX9_opens_43 : decode cX9_opens 43 = .ok (.iaload, 1) := dk_46 (dk_at dksX9_opens_1 19 rfl rfl)
theorem dX9_opens_44 : decode cX9_opens 44 = .ok (.if_icmp .ge 24, 3) := dk_162 0 24 (dk_at dksX9_opens_1 20 rfl rfl)
theorem dX9_opens_47 : decode cX9_opens 47 = .ok (.aload_n 0, 1) := dk_42 (dk_at dksX9_opens_1 23 rfl rfl)
theorem dX9_opens_48 : decode cX9_opens 48 = .ok (.getfield 47, 3) := dk_180 0 47 (dk_at dksX9_opens_2 0 rfl rfl)
theorem dX9_opens_51 : decode cX9_opens 51 = .ok (.iload_n 3, 1) := dk_29 (dk_at dksX9_opens_2 3 rfl rfl)
theorem dX9_opens_52 : decode cX9_opens 52 = .ok (.iload_n 2, 1) := dk_28 (dk_at dksX9_opens_2 4 rfl rfl)
theorem dX9_opens_53 : decode cX9_opens 53 = .ok (.bipush 6, 2) := dk_16 6 (dk_at dksX9_opens_2 5 rfl rfl)
theorem dX9_opens_55 : decode cX9_opens 55 = .ok (.irem, 1) := dk_112 (dk_at dksX9_opens_2 7 rfl rfl)
theorem dX9_opens_56 : decode cX9_opens 56 = .ok (.iastore, 1) := dk_79 (dk_at dksX9_opens_2 8 rfl rfl)
theorem dX9_opens_57 : decode cX9_opens 57 = .ok (.iload_n 2, 1) := dk_28 (dk_at dksX9_opens_2 9 rfl rfl)
theorem dX9_opens_58 : decode cX9_opens 58 = .ok (.bipush 6, 2) := dk_16 6 (dk_at dksX9_opens_2 10 rfl rfl)
theorem dX9_opens_60 : decode cX9_opens 60 = .ok (.idiv, 1) := dk_108 (dk_at dksX9_opens_2 12 rfl rfl)
theorem dX9_opens_61 : decode cX9_opens 61 = .ok (.istore_n 2, 1) := dk_61 (dk_at dksX9_opens_2 13 rfl rfl)
theorem dX9_opens_62 : decode cX9_opens 62 = .ok (.iinc 3 1, 3) := dk_132 3 1 (dk_at dksX9_opens_2 14 rfl rfl)
theorem dX9_opens_65 : decode cX9_opens 65 = .ok (.goto (-28), 3) := dk_167 255 228 (dk_at dksX9_opens_2 17 rfl rfl)
theorem dX9_opens_68 : decode cX9_opens 68 = .ok (.return_, 1) := dk_177 (dk_at dksX9_opens_2 20 rfl rfl)
abbrev cX9_lessens : ByteArray := prog_21_method_101_code
def yX9_lessens : MethodName := ⟨RX9, "lessens", "(II)Z"⟩
def dkwX9_lessens_4 : List UInt8 := [21, 5, 4, 84, 4, 62, 132, 4, 1, 167, 255, 165, 29, 172]
abbrev dktX9_lessens_4 : List UInt8 := dkwX9_lessens_4 ++ []
def dkwX9_lessens_3 : List UInt8 := [21, 5, 46, 21, 6, 163, 0, 6, 167, 0, 22, 42, 180, 0, 69, 21, 5, 21, 6, 79, 42, 180, 0, 75]
abbrev dktX9_lessens_3 : List UInt8 := dkwX9_lessens_3 ++ dktX9_lessens_4
def dkwX9_lessens_2 : List UInt8 := [21, 4, 28, 182, 1, 135, 96, 54, 6, 42, 180, 0, 69, 21, 5, 46, 2, 159, 0, 18, 42, 180, 0, 69]
abbrev dktX9_lessens_2 : List UInt8 := dkwX9_lessens_2 ++ dktX9_lessens_3
def dkwX9_lessens_1 : List UInt8 := [21, 4, 182, 1, 123, 54, 5, 21, 5, 2, 160, 0, 6, 167, 0, 64, 42, 180, 0, 69, 27, 46, 42]
abbrev dktX9_lessens_1 : List UInt8 := dkwX9_lessens_1 ++ dktX9_lessens_2
def dkwX9_lessens_0 : List UInt8 := [3, 62, 42, 180, 0, 75, 27, 3, 84, 3, 54, 4, 21, 4, 42, 180, 1, 98, 162, 0, 88, 42, 27]
abbrev dktX9_lessens_0 : List UInt8 := dkwX9_lessens_0 ++ dktX9_lessens_1
theorem dksX9_lessens_0 : cX9_lessens.data.toList.drop 0 = dktX9_lessens_0 := by decide +kernel
theorem dksX9_lessens_1 : cX9_lessens.data.toList.drop 23 = dktX9_lessens_1 := dk_seg dksX9_lessens_0 23 rfl rfl
theorem dksX9_lessens_2 : cX9_lessens.data.toList.drop 46 = dktX9_lessens_2 := dk_seg dksX9_lessens_1 23 rfl rfl
theorem dksX9_lessens_3 : cX9_lessens.data.toList.drop 70 = dktX9_lessens_3 := dk_seg dksX9_lessens_2 24 rfl rfl
theorem dksX9_lessens_4 : cX9_lessens.data.toList.drop 94 = dktX9_lessens_4 := dk_seg dksX9_lessens_3 24 rfl rfl
theorem dX9_lessens_0 : decode cX9_lessens 0 = .ok (.iconst 0, 1) := dk_3 (dk_at dksX9_lessens_0 0 rfl rfl)
theorem dX9_lessens_1 : decode cX9_lessens 1 = .ok (.istore_n 3, 1) := dk_62 (dk_at dksX9_lessens_0 1 rfl rfl)
theorem dX9_lessens_2 : decode cX9_lessens 2 = .ok (.aload_n 0, 1) := dk_42 (dk_at dksX9_lessens_0 2 rfl rfl)
theorem dX9_lessens_3 : decode cX9_lessens 3 = .ok (.getfield 75, 3) := dk_180 0 75 (dk_at dksX9_lessens_0 3 rfl rfl)
theorem dX9_lessens_6 : decode cX9_lessens 6 = .ok (.iload_n 1, 1) := dk_27 (dk_at dksX9_lessens_0 6 rfl rfl)
theorem dX9_lessens_7 : decode cX9_lessens 7 = .ok (.iconst 0, 1) := dk_3 (dk_at dksX9_lessens_0 7 rfl rfl)
theorem dX9_lessens_8 : decode cX9_lessens 8 = .ok (.bastore, 1) := dk_84 (dk_at dksX9_lessens_0 8 rfl rfl)
theorem dX9_lessens_9 : decode cX9_lessens 9 = .ok (.iconst 0, 1) := dk_3 (dk_at dksX9_lessens_0 9 rfl rfl)
theorem dX9_lessens_10 : decode cX9_lessens 10 = .ok (.istore 4, 2) := dk_54 4 (dk_at dksX9_lessens_0 10 rfl rfl)
theorem dX9_lessens_12 : decode cX9_lessens 12 = .ok (.iload 4, 2) := dk_21 4 (dk_at dksX9_lessens_0 12 rfl rfl)
theorem dX9_lessens_14 : decode cX9_lessens 14 = .ok (.aload_n 0, 1) := dk_42 (dk_at dksX9_lessens_0 14 rfl rfl)
theorem dX9_lessens_15 : decode cX9_lessens 15 = .ok (.getfield 354, 3) := dk_180 1 98 (dk_at dksX9_lessens_0 15 rfl rfl)
theorem dX9_lessens_18 : decode cX9_lessens 18 = .ok (.if_icmp .ge 88, 3) := dk_162 0 88 (dk_at dksX9_lessens_0 18 rfl rfl)
theorem dX9_lessens_21 : decode cX9_lessens 21 = .ok (.aload_n 0, 1) := dk_42 (dk_at dksX9_lessens_0 21 rfl rfl)
theorem dX9_lessens_22 : decode cX9_lessens 22 = .ok (.iload_n 1, 1) := dk_27 (dk_at dksX9_lessens_0 22 rfl rfl)
theorem dX9_lessens_23 : decode cX9_lessens 23 = .ok (.iload 4, 2) := dk_21 4 (dk_at dksX9_lessens_1 0 rfl rfl)
theorem dX9_lessens_25 : decode cX9_lessens 25 = .ok (.invokevirtual 379, 3) := dk_182 1 123 (dk_at dksX9_lessens_1 2 rfl rfl)
theorem dX9_lessens_28 : decode cX9_lessens 28 = .ok (.istore 5, 2) := dk_54 5 (dk_at dksX9_lessens_1 5 rfl rfl)
theorem dX9_lessens_30 : decode cX9_lessens 30 = .ok (.iload 5, 2) := dk_21 5 (dk_at dksX9_lessens_1 7 rfl rfl)
theorem dX9_lessens_32 : decode cX9_lessens 32 = .ok (.iconst (-1), 1) := dk_2 (dk_at dksX9_lessens_1 9 rfl rfl)
theorem dX9_lessens_33 : decode cX9_lessens 33 = .ok (.if_icmp .ne 6, 3) := dk_160 0 6 (dk_at dksX9_lessens_1 10 rfl rfl)
theorem dX9_lessens_36 : decode cX9_lessens 36 = .ok (.goto 64, 3) := dk_167 0 64 (dk_at dksX9_lessens_1 13 rfl rfl)
theorem dX9_lessens_39 : decode cX9_lessens 39 = .ok (.aload_n 0, 1) := dk_42 (dk_at dksX9_lessens_1 16 rfl rfl)
theorem dX9_lessens_40 : decode cX9_lessens 40 = .ok (.getfield 69, 3) := dk_180 0 69 (dk_at dksX9_lessens_1 17 rfl rfl)
theorem dX9_lessens_43 : decode cX9_lessens 43 = .ok (.iload_n 1, 1) := dk_27 (dk_at dksX9_lessens_1 20 rfl rfl)
theorem dX9_lessens_44 : decode cX9_lessens 44 = .ok (.iaload, 1) := dk_46 (dk_at dksX9_lessens_1 21 rfl rfl)
theorem dX9_lessens_45 : decode cX9_lessens 45 = .ok (.aload_n 0, 1) := dk_42 (dk_at dksX9_lessens_1 22 rfl rfl)
theorem dX9_lessens_46 : decode cX9_lessens 46 = .ok (.iload 4, 2) := dk_21 4 (dk_at dksX9_lessens_2 0 rfl rfl)
theorem dX9_lessens_48 : decode cX9_lessens 48 = .ok (.iload_n 2, 1) := dk_28 (dk_at dksX9_lessens_2 2 rfl rfl)
theorem dX9_lessens_49 : decode cX9_lessens 49 = .ok (.invokevirtual 391, 3) := dk_182 1 135 (dk_at dksX9_lessens_2 3 rfl rfl)
theorem dX9_lessens_52 : decode cX9_lessens 52 = .ok (.iadd, 1) := dk_96 (dk_at dksX9_lessens_2 6 rfl rfl)
theorem dX9_lessens_53 : decode cX9_lessens 53 = .ok (.istore 6, 2) := dk_54 6 (dk_at dksX9_lessens_2 7 rfl rfl)
theorem dX9_lessens_55 : decode cX9_lessens 55 = .ok (.aload_n 0, 1) := dk_42 (dk_at dksX9_lessens_2 9 rfl rfl)
theorem dX9_lessens_56 : decode cX9_lessens 56 = .ok (.getfield 69, 3) := dk_180 0 69 (dk_at dksX9_lessens_2 10 rfl rfl)
theorem dX9_lessens_59 : decode cX9_lessens 59 = .ok (.iload 5, 2) := dk_21 5 (dk_at dksX9_lessens_2 13 rfl rfl)
theorem dX9_lessens_61 : decode cX9_lessens 61 = .ok (.iaload, 1) := dk_46 (dk_at dksX9_lessens_2 15 rfl rfl)
theorem dX9_lessens_62 : decode cX9_lessens 62 = .ok (.iconst (-1), 1) := dk_2 (dk_at dksX9_lessens_2 16 rfl rfl)
theorem dX9_lessens_63 : decode cX9_lessens 63 = .ok (.if_icmp .eq 18, 3) := dk_159 0 18 (dk_at dksX9_lessens_2 17 rfl rfl)
theorem dX9_lessens_66 : decode cX9_lessens 66 = .ok (.aload_n 0, 1) := dk_42 (dk_at dksX9_lessens_2 20 rfl rfl)
theorem dX9_lessens_67 : decode cX9_lessens 67 = .ok (.getfield 69, 3) := dk_180 0 69 (dk_at dksX9_lessens_2 21 rfl rfl)
theorem dX9_lessens_70 : decode cX9_lessens 70 = .ok (.iload 5, 2) := dk_21 5 (dk_at dksX9_lessens_3 0 rfl rfl)
theorem dX9_lessens_72 : decode cX9_lessens 72 = .ok (.iaload, 1) := dk_46 (dk_at dksX9_lessens_3 2 rfl rfl)
theorem dX9_lessens_73 : decode cX9_lessens 73 = .ok (.iload 6, 2) := dk_21 6 (dk_at dksX9_lessens_3 3 rfl rfl)
theorem dX9_lessens_75 : decode cX9_lessens 75 = .ok (.if_icmp .gt 6, 3) := dk_163 0 6 (dk_at dksX9_lessens_3 5 rfl rfl)
theorem dX9_lessens_78 : decode cX9_lessens 78 = .ok (.goto 22, 3) := dk_167 0 22 (dk_at dksX9_lessens_3 8 rfl rfl)
theorem dX9_lessens_81 : decode cX9_lessens 81 = .ok (.aload_n 0, 1) := dk_42 (dk_at dksX9_lessens_3 11 rfl rfl)
theorem dX9_lessens_82 : decode cX9_lessens 82 = .ok (.getfield 69, 3) := dk_180 0 69 (dk_at dksX9_lessens_3 12 rfl rfl)
theorem dX9_lessens_85 : decode cX9_lessens 85 = .ok (.iload 5, 2) := dk_21 5 (dk_at dksX9_lessens_3 15 rfl rfl)
theorem dX9_lessens_87 : decode cX9_lessens 87 = .ok (.iload 6, 2) := dk_21 6 (dk_at dksX9_lessens_3 17 rfl rfl)
theorem dX9_lessens_89 : decode cX9_lessens 89 = .ok (.iastore, 1) := dk_79 (dk_at dksX9_lessens_3 19 rfl rfl)
theorem dX9_lessens_90 : decode cX9_lessens 90 = .ok (.aload_n 0, 1) := dk_42 (dk_at dksX9_lessens_3 20 rfl rfl)
theorem dX9_lessens_91 : decode cX9_lessens 91 = .ok (.getfield 75, 3) := dk_180 0 75 (dk_at dksX9_lessens_3 21 rfl rfl)
theorem dX9_lessens_94 : decode cX9_lessens 94 = .ok (.iload 5, 2) := dk_21 5 (dk_at dksX9_lessens_4 0 rfl rfl)
theorem dX9_lessens_96 : decode cX9_lessens 96 = .ok (.iconst 1, 1) := dk_4 (dk_at dksX9_lessens_4 2 rfl rfl)
theorem dX9_lessens_97 : decode cX9_lessens 97 = .ok (.bastore, 1) := dk_84 (dk_at dksX9_lessens_4 3 rfl rfl)
theorem dX9_lessens_98 : decode cX9_lessens 98 = .ok (.iconst 1, 1) := dk_4 (dk_at dksX9_lessens_4 4 rfl rfl)
theorem dX9_lessens_99 : decode cX9_lessens 99 = .ok (.istore_n 3, 1) := dk_62 (dk_at dksX9_lessens_4 5 rfl rfl)
theorem dX9_lessens_100 : decode cX9_lessens 100 = .ok (.iinc 4 1, 3) := dk_132 4 1 (dk_at dksX9_lessens_4 6 rfl rfl)
theorem dX9_lessens_103 : decode cX9_lessens 103 = .ok (.goto (-91), 3) := dk_167 255 165 (dk_at dksX9_lessens_4 9 rfl rfl)
theorem dX9_lessens_106 : decode cX9_lessens 106 = .ok (.iload_n 3, 1) := dk_29 (dk_at dksX9_lessens_4 12 rfl rfl)
theorem dX9_lessens_107 : decode cX9_lessens 107 = .ok (.ireturn, 1) := dk_172 (dk_at dksX9_lessens_4 13 rfl rfl)
abbrev cX9_costOf : ByteArray := prog_21_method_99_code
def yX9_costOf : MethodName := ⟨RX9, "costOf", "(II)I"⟩
def dkwX9_costOf_2 : List UInt8 := [16, 7, 182, 1, 26, 172]
abbrev dktX9_costOf_2 : List UInt8 := dkwX9_costOf_2 ++ []
def dkwX9_costOf_1 : List UInt8 := [16, 6, 182, 1, 26, 42, 180, 0, 56, 27, 46, 4, 96, 104, 167, 0, 15, 42, 42, 180, 0, 65, 27, 46]
abbrev dktX9_costOf_1 : List UInt8 := dkwX9_costOf_1 ++ dktX9_costOf_2
def dkwX9_costOf_0 : List UInt8 := [42, 180, 0, 56, 27, 46, 4, 164, 0, 5, 3, 172, 28, 4, 160, 0, 27, 42, 42, 180, 0, 65, 27, 46]
abbrev dktX9_costOf_0 : List UInt8 := dkwX9_costOf_0 ++ dktX9_costOf_1
theorem dksX9_costOf_0 : cX9_costOf.data.toList.drop 0 = dktX9_costOf_0 := by decide +kernel
theorem dksX9_costOf_1 : cX9_costOf.data.toList.drop 24 = dktX9_costOf_1 := dk_seg dksX9_costOf_0 24 rfl rfl
theorem dksX9_costOf_2 : cX9_costOf.data.toList.drop 48 = dktX9_costOf_2 := dk_seg dksX9_costOf_1 24 rfl rfl
theorem dX9_costOf_0 : decode cX9_costOf 0 = .ok (.aload_n 0, 1) := dk_42 (dk_at dksX9_costOf_0 0 rfl rfl)
theorem dX9_costOf_1 : decode cX9_costOf 1 = .ok (.getfield 56, 3) := dk_180 0 56 (dk_at dksX9_costOf_0 1 rfl rfl)
theorem dX9_costOf_4 : decode cX9_costOf 4 = .ok (.iload_n 1, 1) := dk_27 (dk_at dksX9_costOf_0 4 rfl rfl)
theorem dX9_costOf_5 : decode cX9_costOf 5 = .ok (.iaload, 1) := dk_46 (dk_at dksX9_costOf_0 5 rfl rfl)
theorem dX9_costOf_6 : decode cX9_costOf 6 = .ok (.iconst 1, 1) := dk_4 (dk_at dksX9_costOf_0 6 rfl rfl)
theorem dX9_costOf_7 : decode cX9_costOf 7 = .ok (.if_icmp .le 5, 3) := dk_164 0 5 (dk_at dksX9_costOf_0 7 rfl rfl)
theorem dX9_costOf_10 : decode cX9_costOf 10 = .ok (.iconst 0, 1) := dk_3 (dk_at dksX9_costOf_0 10 rfl rfl)
theorem dX9_costOf_11 : decode cX9_costOf 11 = .ok (.ireturn, 1) := dk_172 (dk_at dksX9_costOf_0 11 rfl rfl)
theorem dX9_costOf_12 : decode cX9_costOf 12 = .ok (.iload_n 2, 1) := dk_28 (dk_at dksX9_costOf_0 12 rfl rfl)
theorem dX9_costOf_13 : decode cX9_costOf 13 = .ok (.iconst 1, 1) := dk_4 (dk_at dksX9_costOf_0 13 rfl rfl)
theorem dX9_costOf_14 : decode cX9_costOf 14 = .ok (.if_icmp .ne 27, 3) := dk_160 0 27 (dk_at dksX9_costOf_0 14 rfl rfl)
theorem dX9_costOf_17 : decode cX9_costOf 17 = .ok (.aload_n 0, 1) := dk_42 (dk_at dksX9_costOf_0 17 rfl rfl)
theorem dX9_costOf_18 : decode cX9_costOf 18 = .ok (.aload_n 0, 1) := dk_42 (dk_at dksX9_costOf_0 18 rfl rfl)
theorem dX9_costOf_19 : decode cX9_costOf 19 = .ok (.getfield 65, 3) := dk_180 0 65 (dk_at dksX9_costOf_0 19 rfl rfl)
theorem dX9_costOf_22 : decode cX9_costOf 22 = .ok (.iload_n 1, 1) := dk_27 (dk_at dksX9_costOf_0 22 rfl rfl)
theorem dX9_costOf_23 : decode cX9_costOf 23 = .ok (.iaload, 1) := dk_46 (dk_at dksX9_costOf_0 23 rfl rfl)
theorem dX9_costOf_24 : decode cX9_costOf 24 = .ok (.bipush 6, 2) := dk_16 6 (dk_at dksX9_costOf_1 0 rfl rfl)
theorem dX9_costOf_26 : decode cX9_costOf 26 = .ok (.invokevirtual 282, 3) := dk_182 1 26 (dk_at dksX9_costOf_1 2 rfl rfl)
theorem dX9_costOf_29 : decode cX9_costOf 29 = .ok (.aload_n 0, 1) := dk_42 (dk_at dksX9_costOf_1 5 rfl rfl)
theorem dX9_costOf_30 : decode cX9_costOf 30 = .ok (.getfield 56, 3) := dk_180 0 56 (dk_at dksX9_costOf_1 6 rfl rfl)
theorem dX9_costOf_33 : decode cX9_costOf 33 = .ok (.iload_n 1, 1) := dk_27 (dk_at dksX9_costOf_1 9 rfl rfl)
theorem dX9_costOf_34 : decode cX9_costOf 34 = .ok (.iaload, 1) := dk_46 (dk_at dksX9_costOf_1 10 rfl rfl)
theorem dX9_costOf_35 : decode cX9_costOf 35 = .ok (.iconst 1, 1) := dk_4 (dk_at dksX9_costOf_1 11 rfl rfl)
theorem dX9_costOf_36 : decode cX9_costOf 36 = .ok (.iadd, 1) := dk_96 (dk_at dksX9_costOf_1 12 rfl rfl)
theorem dX9_costOf_37 : decode cX9_costOf 37 = .ok (.imul, 1) := dk_104 (dk_at dksX9_costOf_1 13 rfl rfl)
theorem dX9_costOf_38 : decode cX9_costOf 38 = .ok (.goto 15, 3) := dk_167 0 15 (dk_at dksX9_costOf_1 14 rfl rfl)
theorem dX9_costOf_41 : decode cX9_costOf 41 = .ok (.aload_n 0, 1) := dk_42 (dk_at dksX9_costOf_1 17 rfl rfl)
theorem dX9_costOf_42 : decode cX9_costOf 42 = .ok (.aload_n 0, 1) := dk_42 (dk_at dksX9_costOf_1 18 rfl rfl)
theorem dX9_costOf_43 : decode cX9_costOf 43 = .ok (.getfield 65, 3) := dk_180 0 65 (dk_at dksX9_costOf_1 19 rfl rfl)
theorem dX9_costOf_46 : decode cX9_costOf 46 = .ok (.iload_n 1, 1) := dk_27 (dk_at dksX9_costOf_1 22 rfl rfl)
theorem dX9_costOf_47 : decode cX9_costOf 47 = .ok (.iaload, 1) := dk_46 (dk_at dksX9_costOf_1 23 rfl rfl)
theorem dX9_costOf_48 : decode cX9_costOf 48 = .ok (.bipush 7, 2) := dk_16 7 (dk_at dksX9_costOf_2 0 rfl rfl)
theorem dX9_costOf_50 : decode cX9_costOf 50 = .ok (.invokevirtual 282, 3) := dk_182 1 26 (dk_at dksX9_costOf_2 2 rfl rfl)
theorem dX9_costOf_53 : decode cX9_costOf 53 = .ok (.ireturn, 1) := dk_172 (dk_at dksX9_costOf_2 5 rfl rfl)
abbrev cX9_isDoneAt : ByteArray := prog_21_method_95_code
def yX9_isDoneAt : MethodName := ⟨RX9, "isDoneAt", "(I)Z"⟩
def dkwX9_isDoneAt_0 : List UInt8 := [42, 27, 182, 1, 105, 42, 182, 1, 32, 172]
abbrev dktX9_isDoneAt_0 : List UInt8 := dkwX9_isDoneAt_0 ++ []
theorem dksX9_isDoneAt_0 : cX9_isDoneAt.data.toList.drop 0 = dktX9_isDoneAt_0 := by decide +kernel
theorem dX9_isDoneAt_0 : decode cX9_isDoneAt 0 = .ok (.aload_n 0, 1) := dk_42 (dk_at dksX9_isDoneAt_0 0 rfl rfl)
theorem dX9_isDoneAt_1 : decode cX9_isDoneAt 1 = .ok (.iload_n 1, 1) := dk_27 (dk_at dksX9_isDoneAt_0 1 rfl rfl)
theorem dX9_isDoneAt_2 : decode cX9_isDoneAt 2 = .ok (.invokevirtual 361, 3) := dk_182 1 105 (dk_at dksX9_isDoneAt_0 2 rfl rfl)
theorem dX9_isDoneAt_5 : decode cX9_isDoneAt 5 = .ok (.aload_n 0, 1) := dk_42 (dk_at dksX9_isDoneAt_0 5 rfl rfl)
theorem dX9_isDoneAt_6 : decode cX9_isDoneAt 6 = .ok (.invokevirtual 288, 3) := dk_182 1 32 (dk_at dksX9_isDoneAt_0 6 rfl rfl)
theorem dX9_isDoneAt_9 : decode cX9_isDoneAt 9 = .ok (.ireturn, 1) := dk_172 (dk_at dksX9_isDoneAt_0 9 rfl rfl)
abbrev cX9_fewestMoves : ByteArray := prog_21_method_98_code
def yX9_fewestMoves : MethodName := ⟨RX9, "fewestMoves", "()I"⟩
def dkwX9_fewestMoves_1 : List UInt8 := [180, 0, 69, 42, 180, 0, 72, 27, 46, 46, 172, 132, 1, 1, 167, 255, 220, 2, 172]
abbrev dktX9_fewestMoves_1 : List UInt8 := dkwX9_fewestMoves_1 ++ []
def dkwX9_fewestMoves_0 : List UInt8 := [3, 60, 27, 42, 180, 1, 117, 162, 0, 34, 42, 42, 180, 0, 72, 27, 46, 182, 1, 126, 153, 0, 15, 42]
abbrev dktX9_fewestMoves_0 : List UInt8 := dkwX9_fewestMoves_0 ++ dktX9_fewestMoves_1
theorem dksX9_fewestMoves_0 : cX9_fewestMoves.data.toList.drop 0 = dktX9_fewestMoves_0 := by decide +kernel
theorem dksX9_fewestMoves_1 : cX9_fewestMoves.data.toList.drop 24 = dktX9_fewestMoves_1 := dk_seg dksX9_fewestMoves_0 24 rfl rfl
theorem dX9_fewestMoves_0 : decode cX9_fewestMoves 0 = .ok (.iconst 0, 1) := dk_3 (dk_at dksX9_fewestMoves_0 0 rfl rfl)
theorem dX9_fewestMoves_1 : decode cX9_fewestMoves 1 = .ok (.istore_n 1, 1) := dk_60 (dk_at dksX9_fewestMoves_0 1 rfl rfl)
theorem dX9_fewestMoves_2 : decode cX9_fewestMoves 2 = .ok (.iload_n 1, 1) := dk_27 (dk_at dksX9_fewestMoves_0 2 rfl rfl)
theorem dX9_fewestMoves_3 : decode cX9_fewestMoves 3 = .ok (.aload_n 0, 1) := dk_42 (dk_at dksX9_fewestMoves_0 3 rfl rfl)
theorem dX9_fewestMoves_4 : decode cX9_fewestMoves 4 = .ok (.getfield 373, 3) := dk_180 1 117 (dk_at dksX9_fewestMoves_0 4 rfl rfl)
theorem dX9_fewestMoves_7 : decode cX9_fewestMoves 7 = .ok (.if_icmp .ge 34, 3) := dk_162 0 34 (dk_at dksX9_fewestMoves_0 7 rfl rfl)
theorem dX9_fewestMoves_10 : decode cX9_fewestMoves 10 = .ok (.aload_n 0, 1) := dk_42 (dk_at dksX9_fewestMoves_0 10 rfl rfl)
theorem dX9_fewestMoves_11 : decode cX9_fewestMoves 11 = .ok (.aload_n 0, 1) := dk_42 (dk_at dksX9_fewestMoves_0 11 rfl rfl)
theorem dX9_fewestMoves_12 : decode cX9_fewestMoves 12 = .ok (.getfield 72, 3) := dk_180 0 72 (dk_at dksX9_fewestMoves_0 12 rfl rfl)
theorem dX9_fewestMoves_15 : decode cX9_fewestMoves 15 = .ok (.iload_n 1, 1) := dk_27 (dk_at dksX9_fewestMoves_0 15 rfl rfl)
theorem dX9_fewestMoves_16 : decode cX9_fewestMoves 16 = .ok (.iaload, 1) := dk_46 (dk_at dksX9_fewestMoves_0 16 rfl rfl)
theorem dX9_fewestMoves_17 : decode cX9_fewestMoves 17 = .ok (.invokevirtual 382, 3) := dk_182 1 126 (dk_at dksX9_fewestMoves_0 17 rfl rfl)
theorem dX9_fewestMoves_20 : decode cX9_fewestMoves 20 = .ok (.ifCond .eq 15, 3) := dk_153 0 15 (dk_at dksX9_fewestMoves_0 20 rfl rfl)
theorem dX9_fewestMoves_23 : decode cX9_fewestMoves 23 = .ok (.aload_n 0, 1) := dk_42 (dk_at dksX9_fewestMoves_0 23 rfl rfl)
theorem dX9_fewestMoves_24 : decode cX9_fewestMoves 24 = .ok (.getfield 69, 3) := dk_180 0 69 (dk_at dksX9_fewestMoves_1 0 rfl rfl)
theorem dX9_fewestMoves_27 : decode cX9_fewestMoves 27 = .ok (.aload_n 0, 1) := dk_42 (dk_at dksX9_fewestMoves_1 3 rfl rfl)
theorem dX9_fewestMoves_28 : decode cX9_fewestMoves 28 = .ok (.getfield 72, 3) := dk_180 0 72 (dk_at dksX9_fewestMoves_1 4 rfl rfl)
theorem dX9_fewestMoves_31 : decode cX9_fewestMoves 31 = .ok (.iload_n 1, 1) := dk_27 (dk_at dksX9_fewestMoves_1 7 rfl rfl)
theorem dX9_fewestMoves_32 : decode cX9_fewestMoves 32 = .ok (.iaload, 1) := dk_46 (dk_at dksX9_fewestMoves_1 8 rfl rfl)
theorem dX9_fewestMoves_33 : decode cX9_fewestMoves 33 = .ok (.iaload, 1) := dk_46 (dk_at dksX9_fewestMoves_1 9 rfl rfl)
theorem dX9_fewestMoves_34 : decode cX9_fewestMoves 34 = .ok (.ireturn, 1) := dk_172 (dk_at dksX9_fewestMoves_1 10 rfl rfl)
theorem dX9_fewestMoves_35 : decode cX9_fewestMoves 35 = .ok (.iinc 1 1, 3) := dk_132 1 1 (dk_at dksX9_fewestMoves_1 11 rfl rfl)
theorem dX9_fewestMoves_38 : decode cX9_fewestMoves 38 = .ok (.goto (-36), 3) := dk_167 255 220 (dk_at dksX9_fewestMoves_1 14 rfl rfl)
theorem dX9_fewestMoves_41 : decode cX9_fewestMoves 41 = .ok (.iconst (-1), 1) := dk_2 (dk_at dksX9_fewestMoves_1 17 rfl rfl)
theorem dX9_fewestMoves_42 : decode cX9_fewestMoves 42 = .ok (.ireturn, 1) := dk_172 (dk_at dksX9_fewestMoves_1 18 rfl rfl)
abbrev cX9_first : ByteArray := prog_21_method_105_code
def yX9_first : MethodName := ⟨RX9, "first", "()I"⟩
def dkwX9_first_6 : List UInt8 := [60, 167, 255, 146, 42, 28, 181, 0, 79, 42, 28, 182, 0, 107, 172]
abbrev dktX9_first_6 : List UInt8 := dkwX9_first_6 ++ []
def dkwX9_first_5 : List UInt8 := [180, 0, 62, 29, 46, 4, 96, 104, 96, 42, 180, 0, 65, 29, 46, 96, 4, 96, 79, 132, 2, 1, 21, 4]
abbrev dktX9_first_5 : List UInt8 := dkwX9_first_5 ++ dktX9_first_6
def dkwX9_first_4 : List UInt8 := [28, 17, 3, 232, 42, 180, 0, 56, 29, 46, 104, 16, 100, 42, 180, 0, 59, 29, 46, 104, 96, 16, 10, 42]
abbrev dktX9_first_4 : List UInt8 := dkwX9_first_4 ++ dktX9_first_5
def dkwX9_first_3 : List UInt8 := [46, 4, 100, 159, 0, 17, 132, 3, 1, 42, 27, 29, 182, 1, 123, 54, 4, 167, 255, 221, 42, 180, 0, 82]
abbrev dktX9_first_3 : List UInt8 := dkwX9_first_3 ++ dktX9_first_4
def dkwX9_first_2 : List UInt8 := [29, 182, 1, 123, 54, 4, 21, 4, 2, 159, 0, 21, 42, 180, 0, 69, 21, 4, 46, 42, 180, 0, 69, 27]
abbrev dktX9_first_2 : List UInt8 := dkwX9_first_2 ++ dktX9_first_3
def dkwX9_first_1 : List UInt8 := [182, 0, 103, 172, 42, 180, 1, 114, 60, 3, 61, 42, 180, 0, 69, 27, 46, 158, 0, 107, 3, 62, 42, 27]
abbrev dktX9_first_1 : List UInt8 := dkwX9_first_1 ++ dktX9_first_2
def dkwX9_first_0 : List UInt8 := [42, 182, 1, 129, 42, 182, 1, 147, 42, 180, 0, 69, 42, 180, 1, 114, 46, 2, 160, 0, 10, 42, 16, 6]
abbrev dktX9_first_0 : List UInt8 := dkwX9_first_0 ++ dktX9_first_1
theorem dksX9_first_0 : cX9_first.data.toList.drop 0 = dktX9_first_0 := by decide +kernel
theorem dksX9_first_1 : cX9_first.data.toList.drop 24 = dktX9_first_1 := dk_seg dksX9_first_0 24 rfl rfl
theorem dksX9_first_2 : cX9_first.data.toList.drop 48 = dktX9_first_2 := dk_seg dksX9_first_1 24 rfl rfl
theorem dksX9_first_3 : cX9_first.data.toList.drop 72 = dktX9_first_3 := dk_seg dksX9_first_2 24 rfl rfl
theorem dksX9_first_4 : cX9_first.data.toList.drop 96 = dktX9_first_4 := dk_seg dksX9_first_3 24 rfl rfl
theorem dksX9_first_5 : cX9_first.data.toList.drop 120 = dktX9_first_5 := dk_seg dksX9_first_4 24 rfl rfl
theorem dksX9_first_6 : cX9_first.data.toList.drop 144 = dktX9_first_6 := dk_seg dksX9_first_5 24 rfl rfl
theorem dX9_first_0 : decode cX9_first 0 = .ok (.aload_n 0, 1) := dk_42 (dk_at dksX9_first_0 0 rfl rfl)
theorem dX9_first_1 : decode cX9_first 1 = .ok (.invokevirtual 385, 3) := dk_182 1 129 (dk_at dksX9_first_0 1 rfl rfl)
theorem dX9_first_4 : decode cX9_first 4 = .ok (.aload_n 0, 1) := dk_42 (dk_at dksX9_first_0 4 rfl rfl)
theorem dX9_first_5 : decode cX9_first 5 = .ok (.invokevirtual 403, 3) := dk_182 1 147 (dk_at dksX9_first_0 5 rfl rfl)
theorem dX9_first_8 : decode cX9_first 8 = .ok (.aload_n 0, 1) := dk_42 (dk_at dksX9_first_0 8 rfl rfl)
theorem dX9_first_9 : decode cX9_first 9 = .ok (.getfield 69, 3) := dk_180 0 69 (dk_at dksX9_first_0 9 rfl rfl)
theorem dX9_first_12 : decode cX9_first 12 = .ok (.aload_n 0, 1) := dk_42 (dk_at dksX9_first_0 12 rfl rfl)
theorem dX9_first_13 : decode cX9_first 13 = .ok (.getfield 370, 3) := dk_180 1 114 (dk_at dksX9_first_0 13 rfl rfl)
theorem dX9_first_16 : decode cX9_first 16 = .ok (.iaload, 1) := dk_46 (dk_at dksX9_first_0 16 rfl rfl)
theorem dX9_first_17 : decode cX9_first 17 = .ok (.iconst (-1), 1) := dk_2 (dk_at dksX9_first_0 17 rfl rfl)
theorem dX9_first_18 : decode cX9_first 18 = .ok (.if_icmp .ne 10, 3) := dk_160 0 10 (dk_at dksX9_first_0 18 rfl rfl)
theorem dX9_first_21 : decode cX9_first 21 = .ok (.aload_n 0, 1) := dk_42 (dk_at dksX9_first_0 21 rfl rfl)
theorem dX9_first_22 : decode cX9_first 22 = .ok (.bipush 6, 2) := dk_16 6 (dk_at dksX9_first_0 22 rfl rfl)
theorem dX9_first_24 : decode cX9_first 24 = .ok (.invokevirtual 103, 3) := dk_182 0 103 (dk_at dksX9_first_1 0 rfl rfl)
theorem dX9_first_27 : decode cX9_first 27 = .ok (.ireturn, 1) := dk_172 (dk_at dksX9_first_1 3 rfl rfl)
theorem dX9_first_28 : decode cX9_first 28 = .ok (.aload_n 0, 1) := dk_42 (dk_at dksX9_first_1 4 rfl rfl)
theorem dX9_first_29 : decode cX9_first 29 = .ok (.getfield 370, 3) := dk_180 1 114 (dk_at dksX9_first_1 5 rfl rfl)
theorem dX9_first_32 : decode cX9_first 32 = .ok (.istore_n 1, 1) := dk_60 (dk_at dksX9_first_1 8 rfl rfl)
theorem dX9_first_33 : decode cX9_first 33 = .ok (.iconst 0, 1) := dk_3 (dk_at dksX9_first_1 9 rfl rfl)
theorem dX9_first_34 : decode cX9_first 34 = .ok (.istore_n 2, 1) := dk_61 (dk_at dksX9_first_1 10 rfl rfl)
theorem dX9_first_35 : decode cX9_first 35 = .ok (.aload_n 0, 1) := dk_42 (dk_at dksX9_first_1 11 rfl rfl)
theorem dX9_first_36 : decode cX9_first 36 = .ok (.getfield 69, 3) := dk_180 0 69 (dk_at dksX9_first_1 12 rfl rfl)
theorem dX9_first_39 : decode cX9_first 39 = .ok (.iload_n 1, 1) := dk_27 (dk_at dksX9_first_1 15 rfl rfl)
theorem dX9_first_40 : decode cX9_first 40 = .ok (.iaload, 1) := dk_46 (dk_at dksX9_first_1 16 rfl rfl)
theorem dX9_first_41 : decode cX9_first 41 = .ok (.ifCond .le 107, 3) := dk_158 0 107 (dk_at dksX9_first_1 17 rfl rfl)
theorem dX9_first_44 : decode cX9_first 44 = .ok (.iconst 0, 1) := dk_3 (dk_at dksX9_first_1 20 rfl rfl)
theorem dX9_first_45 : decode cX9_first 45 = .ok (.istore_n 3, 1) := dk_62 (dk_at dksX9_first_1 21 rfl rfl)
theorem dX9_first_46 : decode cX9_first 46 = .ok (.aload_n 0, 1) := dk_42 (dk_at dksX9_first_1 22 rfl rfl)
theorem dX9_first_47 : decode cX9_first 47 = .ok (.iload_n 1, 1) := dk_27 (dk_at dksX9_first_1 23 rfl rfl)
theorem dX9_first_48 : decode cX9_first 48 = .ok (.iload_n 3, 1) := dk_29 (dk_at dksX9_first_2 0 rfl rfl)
theorem dX9_first_49 : decode cX9_first 49 = .ok (.invokevirtual 379, 3) := dk_182 1 123 (dk_at dksX9_first_2 1 rfl rfl)
theorem dX9_first_52 : decode cX9_first 52 = .ok (.istore 4, 2) := dk_54 4 (dk_at dksX9_first_2 4 rfl rfl)
theorem dX9_first_54 : decode cX9_first 54 = .ok (.iload 4, 2) := dk_21 4 (dk_at dksX9_first_2 6 rfl rfl)
theorem dX9_first_56 : decode cX9_first 56 = .ok (.iconst (-1), 1) := dk_2 (dk_at dksX9_first_2 8 rfl rfl)
theorem dX9_first_57 : decode cX9_first 57 = .ok (.if_icmp .eq 21, 3) := dk_159 0 21 (dk_at dksX9_first_2 9 rfl rfl)
theorem dX9_first_60 : decode cX9_first 60 = .ok (.aload_n 0, 1) := dk_42 (dk_at dksX9_first_2 12 rfl rfl)
theorem dX9_first_61 : decode cX9_first 61 = .ok (.getfield 69, 3) := dk_180 0 69 (dk_at dksX9_first_2 13 rfl rfl)
theorem dX9_first_64 : decode cX9_first 64 = .ok (.iload 4, 2) := dk_21 4 (dk_at dksX9_first_2 16 rfl rfl)
theorem dX9_first_66 : decode cX9_first 66 = .ok (.iaload, 1) := dk_46 (dk_at dksX9_first_2 18 rfl rfl)
theorem dX9_first_67 : decode cX9_first 67 = .ok (.aload_n 0, 1) := dk_42 (dk_at dksX9_first_2 19 rfl rfl)
theorem dX9_first_68 : decode cX9_first 68 = .ok (.getfield 69, 3) := dk_180 0 69 (dk_at dksX9_first_2 20 rfl rfl)
theorem dX9_first_71 : decode cX9_first 71 = .ok (.iload_n 1, 1) := dk_27 (dk_at dksX9_first_2 23 rfl rfl)
theorem dX9_first_72 : decode cX9_first 72 = .ok (.iaload, 1) := dk_46 (dk_at dksX9_first_3 0 rfl rfl)
theorem dX9_first_73 : decode cX9_first 73 = .ok (.iconst 1, 1) := dk_4 (dk_at dksX9_first_3 1 rfl rfl)
theorem dX9_first_74 : decode cX9_first 74 = .ok (.isub, 1) := dk_100 (dk_at dksX9_first_3 2 rfl rfl)
theorem dX9_first_75 : decode cX9_first 75 = .ok (.if_icmp .eq 17, 3) := dk_159 0 17 (dk_at dksX9_first_3 3 rfl rfl)
theorem dX9_first_78 : decode cX9_first 78 = .ok (.iinc 3 1, 3) := dk_132 3 1 (dk_at dksX9_first_3 6 rfl rfl)
theorem dX9_first_81 : decode cX9_first 81 = .ok (.aload_n 0, 1) := dk_42 (dk_at dksX9_first_3 9 rfl rfl)
theorem dX9_first_82 : decode cX9_first 82 = .ok (.iload_n 1, 1) := dk_27 (dk_at dksX9_first_3 10 rfl rfl)
theorem dX9_first_83 : decode cX9_first 83 = .ok (.iload_n 3, 1) := dk_29 (dk_at dksX9_first_3 11 rfl rfl)
theorem dX9_first_84 : decode cX9_first 84 = .ok (.invokevirtual 379, 3) := dk_182 1 123 (dk_at dksX9_first_3 12 rfl rfl)
theorem dX9_first_87 : decode cX9_first 87 = .ok (.istore 4, 2) := dk_54 4 (dk_at dksX9_first_3 15 rfl rfl)
theorem dX9_first_89 : decode cX9_first 89 = .ok (.goto (-35), 3) := dk_167 255 221 (dk_at dksX9_first_3 17 rfl rfl)
theorem dX9_first_92 : decode cX9_first 92 = .ok (.aload_n 0, 1) := dk_42 (dk_at dksX9_first_3 20 rfl rfl)
theorem dX9_first_93 : decode cX9_first 93 = .ok (.getfield 82, 3) := dk_180 0 82 (dk_at dksX9_first_3 21 rfl rfl)
theorem dX9_first_96 : decode cX9_first 96 = .ok (.iload_n 2, 1) := dk_28 (dk_at dksX9_first_4 0 rfl rfl)
theorem dX9_first_97 : decode cX9_first 97 = .ok (.sipush 1000, 3) := dk_17 3 232 (dk_at dksX9_first_4 1 rfl rfl)
theorem dX9_first_100 : decode cX9_first 100 = .ok (.aload_n 0, 1) := dk_42 (dk_at dksX9_first_4 4 rfl rfl)
theorem dX9_first_101 : decode cX9_first 101 = .ok (.getfield 56, 3) := dk_180 0 56 (dk_at dksX9_first_4 5 rfl rfl)
theorem dX9_first_104 : decode cX9_first 104 = .ok (.iload_n 3, 1) := dk_29 (dk_at dksX9_first_4 8 rfl rfl)
theorem dX9_first_105 : decode cX9_first 105 = .ok (.iaload, 1) := dk_46 (dk_at dksX9_first_4 9 rfl rfl)
theorem dX9_first_106 : decode cX9_first 106 = .ok (.imul, 1) := dk_104 (dk_at dksX9_first_4 10 rfl rfl)
theorem dX9_first_107 : decode cX9_first 107 = .ok (.bipush 100, 2) := dk_16 100 (dk_at dksX9_first_4 11 rfl rfl)
theorem dX9_first_109 : decode cX9_first 109 = .ok (.aload_n 0, 1) := dk_42 (dk_at dksX9_first_4 13 rfl rfl)
theorem dX9_first_110 : decode cX9_first 110 = .ok (.getfield 59, 3) := dk_180 0 59 (dk_at dksX9_first_4 14 rfl rfl)
theorem dX9_first_113 : decode cX9_first 113 = .ok (.iload_n 3, 1) := dk_29 (dk_at dksX9_first_4 17 rfl rfl)
theorem dX9_first_114 : decode cX9_first 114 = .ok (.iaload, 1) := dk_46 (dk_at dksX9_first_4 18 rfl rfl)
theorem dX9_first_115 : decode cX9_first 115 = .ok (.imul, 1) := dk_104 (dk_at dksX9_first_4 19 rfl rfl)
theorem dX9_first_116 : decode cX9_first 116 = .ok (.iadd, 1) := dk_96 (dk_at dksX9_first_4 20 rfl rfl)
theorem dX9_first_117 : decode cX9_first 117 = .ok (.bipush 10, 2) := dk_16 10 (dk_at dksX9_first_4 21 rfl rfl)
theorem dX9_first_119 : decode cX9_first 119 = .ok (.aload_n 0, 1) := dk_42 (dk_at dksX9_first_4 23 rfl rfl)
theorem dX9_first_120 : decode cX9_first 120 = .ok (.getfield 62, 3) := dk_180 0 62 (dk_at dksX9_first_5 0 rfl rfl)
theorem dX9_first_123 : decode cX9_first 123 = .ok (.iload_n 3, 1) := dk_29 (dk_at dksX9_first_5 3 rfl rfl)
theorem dX9_first_124 : decode cX9_first 124 = .ok (.iaload, 1) := dk_46 (dk_at dksX9_first_5 4 rfl rfl)
theorem dX9_first_125 : decode cX9_first 125 = .ok (.iconst 1, 1) := dk_4 (dk_at dksX9_first_5 5 rfl rfl)
theorem dX9_first_126 : decode cX9_first 126 = .ok (.iadd, 1) := dk_96 (dk_at dksX9_first_5 6 rfl rfl)
theorem dX9_first_127 : decode cX9_first 127 = .ok (.imul, 1) := dk_104 (dk_at dksX9_first_5 7 rfl rfl)
theorem dX9_first_128 : decode cX9_first 128 = .ok (.iadd, 1) := dk_96 (dk_at dksX9_first_5 8 rfl rfl)
theorem dX9_first_129 : decode cX9_first 129 = .ok (.aload_n 0, 1) := dk_42 (dk_at dksX9_first_5 9 rfl rfl)
theorem dX9_first_130 : decode cX9_first 130 = .ok (.getfield 65, 3) := dk_180 0 65 (dk_at dksX9_first_5 10 rfl rfl)
theorem dX9_first_133 : decode cX9_first 133 = .ok (.iload_n 3, 1) := dk_29 (dk_at dksX9_first_5 13 rfl rfl)
theorem dX9_first_134 : decode cX9_first 134 = .ok (.iaload, 1) := dk_46 (dk_at dksX9_first_5 14 rfl rfl)
theorem dX9_first_135 : decode cX9_first 135 = .ok (.iadd, 1) := dk_96 (dk_at dksX9_first_5 15 rfl rfl)
theorem dX9_first_136 : decode cX9_first 136 = .ok (.iconst 1, 1) := dk_4 (dk_at dksX9_first_5 16 rfl rfl)
theorem dX9_first_137 : decode cX9_first 137 = .ok (.iadd, 1) := dk_96 (dk_at dksX9_first_5 17 rfl rfl)
theorem dX9_first_138 : decode cX9_first 138 = .ok (.iastore, 1) := dk_79 (dk_at dksX9_first_5 18 rfl rfl)
theorem dX9_first_139 : decode cX9_first 139 = .ok (.iinc 2 1, 3) := dk_132 2 1 (dk_at dksX9_first_5 19 rfl rfl)
theorem dX9_first_142 : decode cX9_first 142 = .ok (.iload 4, 2) := dk_21 4 (dk_at dksX9_first_5 22 rfl rfl)
theorem dX9_first_144 : decode cX9_first 144 = .ok (.istore_n 1, 1) := dk_60 (dk_at dksX9_first_6 0 rfl rfl)
theorem dX9_first_145 : decode cX9_first 145 = .ok (.goto (-110), 3) := dk_167 255 146 (dk_at dksX9_first_6 1 rfl rfl)
theorem dX9_first_148 : decode cX9_first 148 = .ok (.aload_n 0, 1) := dk_42 (dk_at dksX9_first_6 4 rfl rfl)
theorem dX9_first_149 : decode cX9_first 149 = .ok (.iload_n 2, 1) := dk_28 (dk_at dksX9_first_6 5 rfl rfl)
theorem dX9_first_150 : decode cX9_first 150 = .ok (.putfield 79, 3) := dk_181 0 79 (dk_at dksX9_first_6 6 rfl rfl)
theorem dX9_first_153 : decode cX9_first 153 = .ok (.aload_n 0, 1) := dk_42 (dk_at dksX9_first_6 9 rfl rfl)
theorem dX9_first_154 : decode cX9_first 154 = .ok (.iload_n 2, 1) := dk_28 (dk_at dksX9_first_6 10 rfl rfl)
theorem dX9_first_155 : decode cX9_first 155 = .ok (.invokevirtual 107, 3) := dk_182 0 107 (dk_at dksX9_first_6 11 rfl rfl)
theorem dX9_first_158 : decode cX9_first 158 = .ok (.ireturn, 1) := dk_172 (dk_at dksX9_first_6 14 rfl rfl)
abbrev cX9_leaves : ByteArray := prog_21_method_103_code
def yX9_leaves : MethodName := ⟨RX9, "leaves", "()V"⟩
def dkwX9_leaves_4 : List UInt8 := [153, 0, 7, 4, 167, 0, 4, 3, 60, 132, 2, 255, 167, 255, 212, 167, 255, 196, 177]
abbrev dktX9_leaves_4 : List UInt8 := dkwX9_leaves_4 ++ []
def dkwX9_leaves_3 : List UInt8 := [180, 0, 72, 28, 46, 46, 153, 0, 26, 42, 42, 180, 0, 72, 28, 46, 182, 1, 144, 154, 0, 7, 27]
abbrev dktX9_leaves_3 : List UInt8 := dkwX9_leaves_3 ++ dktX9_leaves_4
def dkwX9_leaves_2 : List UInt8 := [60, 27, 153, 0, 62, 3, 60, 42, 180, 1, 117, 4, 100, 61, 28, 155, 0, 46, 42, 180, 0, 69, 42]
abbrev dktX9_leaves_2 : List UInt8 := dkwX9_leaves_2 ++ dktX9_leaves_3
def dkwX9_leaves_1 : List UInt8 := [180, 0, 72, 27, 46, 182, 1, 126, 153, 0, 7, 3, 167, 0, 4, 2, 79, 132, 1, 1, 167, 255, 216, 4]
abbrev dktX9_leaves_1 : List UInt8 := dkwX9_leaves_1 ++ dktX9_leaves_2
def dkwX9_leaves_0 : List UInt8 := [3, 60, 27, 42, 180, 1, 117, 162, 0, 38, 42, 180, 0, 69, 42, 180, 0, 72, 27, 46, 42, 42]
abbrev dktX9_leaves_0 : List UInt8 := dkwX9_leaves_0 ++ dktX9_leaves_1
theorem dksX9_leaves_0 : cX9_leaves.data.toList.drop 0 = dktX9_leaves_0 := by decide +kernel
theorem dksX9_leaves_1 : cX9_leaves.data.toList.drop 22 = dktX9_leaves_1 := dk_seg dksX9_leaves_0 22 rfl rfl
theorem dksX9_leaves_2 : cX9_leaves.data.toList.drop 46 = dktX9_leaves_2 := dk_seg dksX9_leaves_1 24 rfl rfl
theorem dksX9_leaves_3 : cX9_leaves.data.toList.drop 69 = dktX9_leaves_3 := dk_seg dksX9_leaves_2 23 rfl rfl
theorem dksX9_leaves_4 : cX9_leaves.data.toList.drop 92 = dktX9_leaves_4 := dk_seg dksX9_leaves_3 23 rfl rfl
theorem dX9_leaves_0 : decode cX9_leaves 0 = .ok (.iconst 0, 1) := dk_3 (dk_at dksX9_leaves_0 0 rfl rfl)
theorem dX9_leaves_1 : decode cX9_leaves 1 = .ok (.istore_n 1, 1) := dk_60 (dk_at dksX9_leaves_0 1 rfl rfl)
theorem dX9_leaves_2 : decode cX9_leaves 2 = .ok (.iload_n 1, 1) := dk_27 (dk_at dksX9_leaves_0 2 rfl rfl)
theorem dX9_leaves_3 : decode cX9_leaves 3 = .ok (.aload_n 0, 1) := dk_42 (dk_at dksX9_leaves_0 3 rfl rfl)
theorem dX9_leaves_4 : decode cX9_leaves 4 = .ok (.getfield 373, 3) := dk_180 1 117 (dk_at dksX9_leaves_0 4 rfl rfl)
theorem dX9_leaves_7 : decode cX9_leaves 7 = .ok (.if_icmp .ge 38, 3) := dk_162 0 38 (dk_at dksX9_leaves_0 7 rfl rfl)
theorem dX9_leaves_10 : decode cX9_leaves 10 = .ok (.aload_n 0, 1) := dk_42 (dk_at dksX9_leaves_0 10 rfl rfl)
theorem dX9_leaves_11 : decode cX9_leaves 11 = .ok (.getfield 69, 3) := dk_180 0 69 (dk_at dksX9_leaves_0 11 rfl rfl)
theorem dX9_leaves_14 : decode cX9_leaves 14 = .ok (.aload_n 0, 1) := dk_42 (dk_at dksX9_leaves_0 14 rfl rfl)
theorem dX9_leaves_15 : decode cX9_leaves 15 = .ok (.getfield 72, 3) := dk_180 0 72 (dk_at dksX9_leaves_0 15 rfl rfl)
theorem dX9_leaves_18 : decode cX9_leaves 18 = .ok (.iload_n 1, 1) := dk_27 (dk_at dksX9_leaves_0 18 rfl rfl)
theorem dX9_leaves_19 : decode cX9_leaves 19 = .ok (.iaload, 1) := dk_46 (dk_at dksX9_leaves_0 19 rfl rfl)
theorem dX9_leaves_20 : decode cX9_leaves 20 = .ok (.aload_n 0, 1) := dk_42 (dk_at dksX9_leaves_0 20 rfl rfl)
theorem dX9_leaves_21 : decode cX9_leaves 21 = .ok (.aload_n 0, 1) := dk_42 (dk_at dksX9_leaves_0 21 rfl rfl)
theorem dX9_leaves_22 : decode cX9_leaves 22 = .ok (.getfield 72, 3) := dk_180 0 72 (dk_at dksX9_leaves_1 0 rfl rfl)
theorem dX9_leaves_25 : decode cX9_leaves 25 = .ok (.iload_n 1, 1) := dk_27 (dk_at dksX9_leaves_1 3 rfl rfl)
theorem dX9_leaves_26 : decode cX9_leaves 26 = .ok (.iaload, 1) := dk_46 (dk_at dksX9_leaves_1 4 rfl rfl)
theorem dX9_leaves_27 : decode cX9_leaves 27 = .ok (.invokevirtual 382, 3) := dk_182 1 126 (dk_at dksX9_leaves_1 5 rfl rfl)
theorem dX9_leaves_30 : decode cX9_leaves 30 = .ok (.ifCond .eq 7, 3) := dk_153 0 7 (dk_at dksX9_leaves_1 8 rfl rfl)
theorem dX9_leaves_33 : decode cX9_leaves 33 = .ok (.iconst 0, 1) := dk_3 (dk_at dksX9_leaves_1 11 rfl rfl)
theorem dX9_leaves_34 : decode cX9_leaves 34 = .ok (.goto 4, 3) := dk_167 0 4 (dk_at dksX9_leaves_1 12 rfl rfl)
theorem dX9_leaves_37 : decode cX9_leaves 37 = .ok (.iconst (-1), 1) := dk_2 (dk_at dksX9_leaves_1 15 rfl rfl)
theorem dX9_leaves_38 : decode cX9_leaves 38 = .ok (.iastore, 1) := dk_79 (dk_at dksX9_leaves_1 16 rfl rfl)
theorem dX9_leaves_39 : decode cX9_leaves 39 = .ok (.iinc 1 1, 3) := dk_132 1 1 (dk_at dksX9_leaves_1 17 rfl rfl)
theorem dX9_leaves_42 : decode cX9_leaves 42 = .ok (.goto (-40), 3) := dk_167 255 216 (dk_at dksX9_leaves_1 20 rfl rfl)
theorem dX9_leaves_45 : decode cX9_leaves 45 = .ok (.iconst 1, 1) := dk_4 (dk_at dksX9_leaves_1 23 rfl rfl)
theorem dX9_leaves_46 : decode cX9_leaves 46 = .ok (.istore_n 1, 1) := dk_60 (dk_at dksX9_leaves_2 0 rfl rfl)
theorem dX9_leaves_47 : decode cX9_leaves 47 = .ok (.iload_n 1, 1) := dk_27 (dk_at dksX9_leaves_2 1 rfl rfl)
theorem dX9_leaves_48 : decode cX9_leaves 48 = .ok (.ifCond .eq 62, 3) := dk_153 0 62 (dk_at dksX9_leaves_2 2 rfl rfl)
theorem dX9_leaves_51 : decode cX9_leaves 51 = .ok (.iconst 0, 1) := dk_3 (dk_at dksX9_leaves_2 5 rfl rfl)
theorem dX9_leaves_52 : decode cX9_leaves 52 = .ok (.istore_n 1, 1) := dk_60 (dk_at dksX9_leaves_2 6 rfl rfl)
theorem dX9_leaves_53 : decode cX9_leaves 53 = .ok (.aload_n 0, 1) := dk_42 (dk_at dksX9_leaves_2 7 rfl rfl)
theorem dX9_leaves_54 : decode cX9_leaves 54 = .ok (.getfield 373, 3) := dk_180 1 117 (dk_at dksX9_leaves_2 8 rfl rfl)
theorem dX9_leaves_57 : decode cX9_leaves 57 = .ok (.iconst 1, 1) := dk_4 (dk_at dksX9_leaves_2 11 rfl rfl)
theorem dX9_leaves_58 : decode cX9_leaves 58 = .ok (.isub, 1) := dk_100 (dk_at dksX9_leaves_2 12 rfl rfl)
theorem dX9_leaves_59 : decode cX9_leaves 59 = .ok (.istore_n 2, 1) := dk_61 (dk_at dksX9_leaves_2 13 rfl rfl)
theorem dX9_leaves_60 : decode cX9_leaves 60 = .ok (.iload_n 2, 1) := dk_28 (dk_at dksX9_leaves_2 14 rfl rfl)
theorem dX9_leaves_61 : decode cX9_leaves 61 = .ok (.ifCond .lt 46, 3) := dk_155 0 46 (dk_at dksX9_leaves_2 15 rfl rfl)
theorem dX9_leaves_64 : decode cX9_leaves 64 = .ok (.aload_n 0, 1) := dk_42 (dk_at dksX9_leaves_2 18 rfl rfl)
theorem dX9_leaves_65 : decode cX9_leaves 65 = .ok (.getfield 69, 3) := dk_180 0 69 (dk_at dksX9_leaves_2 19 rfl rfl)
theorem dX9_leaves_68 : decode cX9_leaves 68 = .ok (.aload_n 0, 1) := dk_42 (dk_at dksX9_leaves_2 22 rfl rfl)
theorem dX9_leaves_69 : decode cX9_leaves 69 = .ok (.getfield 72, 3) := dk_180 0 72 (dk_at dksX9_leaves_3 0 rfl rfl)
theorem dX9_leaves_72 : decode cX9_leaves 72 = .ok (.iload_n 2, 1) := dk_28 (dk_at dksX9_leaves_3 3 rfl rfl)
theorem dX9_leaves_73 : decode cX9_leaves 73 = .ok (.iaload, 1) := dk_46 (dk_at dksX9_leaves_3 4 rfl rfl)
theorem dX9_leaves_74 : decode cX9_leaves 74 = .ok (.iaload, 1) := dk_46 (dk_at dksX9_leaves_3 5 rfl rfl)
theorem dX9_leaves_75 : decode cX9_leaves 75 = .ok (.ifCond .eq 26, 3) := dk_153 0 26 (dk_at dksX9_leaves_3 6 rfl rfl)
theorem dX9_leaves_78 : decode cX9_leaves 78 = .ok (.aload_n 0, 1) := dk_42 (dk_at dksX9_leaves_3 9 rfl rfl)
theorem dX9_leaves_79 : decode cX9_leaves 79 = .ok (.aload_n 0, 1) := dk_42 (dk_at dksX9_leaves_3 10 rfl rfl)
theorem dX9_leaves_80 : decode cX9_leaves 80 = .ok (.getfield 72, 3) := dk_180 0 72 (dk_at dksX9_leaves_3 11 rfl rfl)
theorem dX9_leaves_83 : decode cX9_leaves 83 = .ok (.iload_n 2, 1) := dk_28 (dk_at dksX9_leaves_3 14 rfl rfl)
theorem dX9_leaves_84 : decode cX9_leaves 84 = .ok (.iaload, 1) := dk_46 (dk_at dksX9_leaves_3 15 rfl rfl)
theorem dX9_leaves_85 : decode cX9_leaves 85 = .ok (.invokevirtual 400, 3) := dk_182 1 144 (dk_at dksX9_leaves_3 16 rfl rfl)
theorem dX9_leaves_88 : decode cX9_leaves 88 = .ok (.ifCond .ne 7, 3) := dk_154 0 7 (dk_at dksX9_leaves_3 19 rfl rfl)
theorem dX9_leaves_91 : decode cX9_leaves 91 = .ok (.iload_n 1, 1) := dk_27 (dk_at dksX9_leaves_3 22 rfl rfl)
theorem dX9_leaves_92 : decode cX9_leaves 92 = .ok (.ifCond .eq 7, 3) := dk_153 0 7 (dk_at dksX9_leaves_4 0 rfl rfl)
theorem dX9_leaves_95 : decode cX9_leaves 95 = .ok (.iconst 1, 1) := dk_4 (dk_at dksX9_leaves_4 3 rfl rfl)
theorem dX9_leaves_96 : decode cX9_leaves 96 = .ok (.goto 4, 3) := dk_167 0 4 (dk_at dksX9_leaves_4 4 rfl rfl)
theorem dX9_leaves_99 : decode cX9_leaves 99 = .ok (.iconst 0, 1) := dk_3 (dk_at dksX9_leaves_4 7 rfl rfl)
theorem dX9_leaves_100 : decode cX9_leaves 100 = .ok (.istore_n 1, 1) := dk_60 (dk_at dksX9_leaves_4 8 rfl rfl)
theorem dX9_leaves_101 : decode cX9_leaves 101 = .ok (.iinc 2 (-1), 3) := dk_132 2 255 (dk_at dksX9_leaves_4 9 rfl rfl)
theorem dX9_leaves_104 : decode cX9_leaves 104 = .ok (.goto (-44), 3) := dk_167 255 212 (dk_at dksX9_leaves_4 12 rfl rfl)
theorem dX9_leaves_107 : decode cX9_leaves 107 = .ok (.goto (-60), 3) := dk_167 255 196 (dk_at dksX9_leaves_4 15 rfl rfl)
theorem dX9_leaves_110 : decode cX9_leaves 110 = .ok (.return_, 1) := dk_177 (dk_at dksX9_leaves_4 18 rfl rfl)
abbrev cX9_leavesLess : ByteArray := prog_21_method_104_code
def yX9_leavesLess : MethodName := ⟨RX9, "leavesLess", "(I)Z"⟩
def dkwX9_leavesLess_4 : List UInt8 := [180, 0, 69, 27, 28, 79, 29, 172]
abbrev dktX9_leavesLess_4 : List UInt8 := dkwX9_leavesLess_4 ++ []
def dkwX9_leavesLess_3 : List UInt8 := [132, 3, 1, 167, 255, 192, 28, 42, 180, 0, 69, 27, 46, 159, 0, 7, 4, 167, 0, 4, 3, 62, 42]
abbrev dktX9_leavesLess_3 : List UInt8 := dkwX9_leavesLess_3 ++ dktX9_leavesLess_4
def dkwX9_leavesLess_2 : List UInt8 := [42, 180, 0, 69, 21, 4, 46, 4, 96, 28, 162, 0, 13, 42, 180, 0, 69, 21, 4, 46, 4, 96, 61]
abbrev dktX9_leavesLess_2 : List UInt8 := dkwX9_leavesLess_2 ++ dktX9_leavesLess_3
def dkwX9_leavesLess_1 : List UInt8 := [54, 4, 21, 4, 2, 159, 0, 42, 42, 180, 0, 69, 21, 4, 46, 2, 159, 0, 31, 28, 2, 159, 0, 16]
abbrev dktX9_leavesLess_1 : List UInt8 := dkwX9_leavesLess_1 ++ dktX9_leavesLess_2
def dkwX9_leavesLess_0 : List UInt8 := [42, 180, 0, 69, 27, 46, 61, 3, 62, 29, 42, 180, 1, 98, 162, 0, 62, 42, 27, 29, 182, 1, 123]
abbrev dktX9_leavesLess_0 : List UInt8 := dkwX9_leavesLess_0 ++ dktX9_leavesLess_1
theorem dksX9_leavesLess_0 : cX9_leavesLess.data.toList.drop 0 = dktX9_leavesLess_0 := by decide +kernel
theorem dksX9_leavesLess_1 : cX9_leavesLess.data.toList.drop 23 = dktX9_leavesLess_1 := dk_seg dksX9_leavesLess_0 23 rfl rfl
theorem dksX9_leavesLess_2 : cX9_leavesLess.data.toList.drop 47 = dktX9_leavesLess_2 := dk_seg dksX9_leavesLess_1 24 rfl rfl
theorem dksX9_leavesLess_3 : cX9_leavesLess.data.toList.drop 70 = dktX9_leavesLess_3 := dk_seg dksX9_leavesLess_2 23 rfl rfl
theorem dksX9_leavesLess_4 : cX9_leavesLess.data.toList.drop 93 = dktX9_leavesLess_4 := dk_seg dksX9_leavesLess_3 23 rfl rfl
theorem dX9_leavesLess_0 : decode cX9_leavesLess 0 = .ok (.aload_n 0, 1) := dk_42 (dk_at dksX9_leavesLess_0 0 rfl rfl)
theorem dX9_leavesLess_1 : decode cX9_leavesLess 1 = .ok (.getfield 69, 3) := dk_180 0 69 (dk_at dksX9_leavesLess_0 1 rfl rfl)
theorem dX9_leavesLess_4 : decode cX9_leavesLess 4 = .ok (.iload_n 1, 1) := dk_27 (dk_at dksX9_leavesLess_0 4 rfl rfl)
theorem dX9_leavesLess_5 : decode cX9_leavesLess 5 = .ok (.iaload, 1) := dk_46 (dk_at dksX9_leavesLess_0 5 rfl rfl)
theorem dX9_leavesLess_6 : decode cX9_leavesLess 6 = .ok (.istore_n 2, 1) := dk_61 (dk_at dksX9_leavesLess_0 6 rfl rfl)
theorem dX9_leavesLess_7 : decode cX9_leavesLess 7 = .ok (.iconst 0, 1) := dk_3 (dk_at dksX9_leavesLess_0 7 rfl rfl)
theorem dX9_leavesLess_8 : decode cX9_leavesLess 8 = .ok (.istore_n 3, 1) := dk_62 (dk_at dksX9_leavesLess_0 8 rfl rfl)
theorem dX9_leavesLess_9 : decode cX9_leavesLess 9 = .ok (.iload_n 3, 1) := dk_29 (dk_at dksX9_leavesLess_0 9 rfl rfl)
theorem dX9_leavesLess_10 : decode cX9_leavesLess 10 = .ok (.aload_n 0, 1) := dk_42 (dk_at dksX9_leavesLess_0 10 rfl rfl)
theorem dX9_leavesLess_11 : decode cX9_leavesLess 11 = .ok (.getfield 354, 3) := dk_180 1 98 (dk_at dksX9_leavesLess_0 11 rfl rfl)
theorem dX9_leavesLess_14 : decode cX9_leavesLess 14 = .ok (.if_icmp .ge 62, 3) := dk_162 0 62 (dk_at dksX9_leavesLess_0 14 rfl rfl)
theorem dX9_leavesLess_17 : decode cX9_leavesLess 17 = .ok (.aload_n 0, 1) := dk_42 (dk_at dksX9_leavesLess_0 17 rfl rfl)
theorem dX9_leavesLess_18 : decode cX9_leavesLess 18 = .ok (.iload_n 1, 1) := dk_27 (dk_at dksX9_leavesLess_0 18 rfl rfl)
theorem dX9_leavesLess_19 : decode cX9_leavesLess 19 = .ok (.iload_n 3, 1) := dk_29 (dk_at dksX9_leavesLess_0 19 rfl rfl)
theorem dX9_leavesLess_20 : decode cX9_leavesLess 20 = .ok (.invokevirtual 379, 3) := dk_182 1 123 (dk_at dksX9_leavesLess_0 20 rfl rfl)
theorem dX9_leavesLess_23 : decode cX9_leavesLess 23 = .ok (.istore 4, 2) := dk_54 4 (dk_at dksX9_leavesLess_1 0 rfl rfl)
theorem dX9_leavesLess_25 : decode cX9_leavesLess 25 = .ok (.iload 4, 2) := dk_21 4 (dk_at dksX9_leavesLess_1 2 rfl rfl)
theorem dX9_leavesLess_27 : decode cX9_leavesLess 27 = .ok (.iconst (-1), 1) := dk_2 (dk_at dksX9_leavesLess_1 4 rfl rfl)
theorem dX9_leavesLess_28 : decode cX9_leavesLess 28 = .ok (.if_icmp .eq 42, 3) := dk_159 0 42 (dk_at dksX9_leavesLess_1 5 rfl rfl)
theorem dX9_leavesLess_31 : decode cX9_leavesLess 31 = .ok (.aload_n 0, 1) := dk_42 (dk_at dksX9_leavesLess_1 8 rfl rfl)
theorem dX9_leavesLess_32 : decode cX9_leavesLess 32 = .ok (.getfield 69, 3) := dk_180 0 69 (dk_at dksX9_leavesLess_1 9 rfl rfl)
theorem dX9_leavesLess_35 : decode cX9_leavesLess 35 = .ok (.iload 4, 2) := dk_21 4 (dk_at dksX9_leavesLess_1 12 rfl rfl)
theorem dX9_leavesLess_37 : decode cX9_leavesLess 37 = .ok (.iaload, 1) := dk_46 (dk_at dksX9_leavesLess_1 14 rfl rfl)
theorem dX9_leavesLess_38 : decode cX9_leavesLess 38 = .ok (.iconst (-1), 1) := dk_2 (dk_at dksX9_leavesLess_1 15 rfl rfl)
theorem dX9_leavesLess_39 : decode cX9_leavesLess 39 = .ok (.if_icmp .eq 31, 3) := dk_159 0 31 (dk_at dksX9_leavesLess_1 16 rfl rfl)
theorem dX9_leavesLess_42 : decode cX9_leavesLess 42 = .ok (.iload_n 2, 1) := dk_28 (dk_at dksX9_leavesLess_1 19 rfl rfl)
theorem dX9_leavesLess_43 : decode cX9_leavesLess 43 = .ok (.iconst (-1), 1) := dk_2 (dk_at dksX9_leavesLess_1 20 rfl rfl)
theorem dX9_leavesLess_44 : decode cX9_leavesLess 44 = .ok (.if_icmp .eq 16, 3) := dk_159 0 16 (dk_at dksX9_leavesLess_1 21 rfl rfl)
theorem dX9_leavesLess_47 : decode cX9_leavesLess 47 = .ok (.aload_n 0, 1) := dk_42 (dk_at dksX9_leavesLess_2 0 rfl rfl)
theorem dX9_leavesLess_48 : decode cX9_leavesLess 48 = .ok (.getfield 69, 3) := dk_180 0 69 (dk_at dksX9_leavesLess_2 1 rfl rfl)
theorem dX9_leavesLess_51 : decode cX9_leavesLess 51 = .ok (.iload 4, 2) := dk_21 4 (dk_at dksX9_leavesLess_2 4 rfl rfl)
theorem dX9_leavesLess_53 : decode cX9_leavesLess 53 = .ok (.iaload, 1) := dk_46 (dk_at dksX9_leavesLess_2 6 rfl rfl)
theorem dX9_leavesLess_54 : decode cX9_leavesLess 54 = .ok (.iconst 1, 1) := dk_4 (dk_at dksX9_leavesLess_2 7 rfl rfl)
theorem dX9_leavesLess_55 : decode cX9_leavesLess 55 = .ok (.iadd, 1) := dk_96 (dk_at dksX9_leavesLess_2 8 rfl rfl)
theorem dX9_leavesLess_56 : decode cX9_leavesLess 56 = .ok (.iload_n 2, 1) := dk_28 (dk_at dksX9_leavesLess_2 9 rfl rfl)
theorem dX9_leavesLess_57 : decode cX9_leavesLess 57 = .ok (.if_icmp .ge 13, 3) := dk_162 0 13 (dk_at dksX9_leavesLess_2 10 rfl rfl)
theorem dX9_leavesLess_60 : decode cX9_leavesLess 60 = .ok (.aload_n 0, 1) := dk_42 (dk_at dksX9_leavesLess_2 13 rfl rfl)
theorem dX9_leavesLess_61 : decode cX9_leavesLess 61 = .ok (.getfield 69, 3) := dk_180 0 69 (dk_at dksX9_leavesLess_2 14 rfl rfl)
theorem dX9_leavesLess_64 : decode cX9_leavesLess 64 = .ok (.iload 4, 2) := dk_21 4 (dk_at dksX9_leavesLess_2 17 rfl rfl)
theorem dX9_leavesLess_66 : decode cX9_leavesLess 66 = .ok (.iaload, 1) := dk_46 (dk_at dksX9_leavesLess_2 19 rfl rfl)
theorem dX9_leavesLess_67 : decode cX9_leavesLess 67 = .ok (.iconst 1, 1) := dk_4 (dk_at dksX9_leavesLess_2 20 rfl rfl)
theorem dX9_leavesLess_68 : decode cX9_leavesLess 68 = .ok (.iadd, 1) := dk_96 (dk_at dksX9_leavesLess_2 21 rfl rfl)
theorem dX9_leavesLess_69 : decode cX9_leavesLess 69 = .ok (.istore_n 2, 1) := dk_61 (dk_at dksX9_leavesLess_2 22 rfl rfl)
theorem dX9_leavesLess_70 : decode cX9_leavesLess 70 = .ok (.iinc 3 1, 3) := dk_132 3 1 (dk_at dksX9_leavesLess_3 0 rfl rfl)
theorem dX9_leavesLess_73 : decode cX9_leavesLess 73 = .ok (.goto (-64), 3) := dk_167 255 192 (dk_at dksX9_leavesLess_3 3 rfl rfl)
theorem dX9_leavesLess_76 : decode cX9_leavesLess 76 = .ok (.iload_n 2, 1) := dk_28 (dk_at dksX9_leavesLess_3 6 rfl rfl)
theorem dX9_leavesLess_77 : decode cX9_leavesLess 77 = .ok (.aload_n 0, 1) := dk_42 (dk_at dksX9_leavesLess_3 7 rfl rfl)
theorem dX9_leavesLess_78 : decode cX9_leavesLess 78 = .ok (.getfield 69, 3) := dk_180 0 69 (dk_at dksX9_leavesLess_3 8 rfl rfl)
theorem dX9_leavesLess_81 : decode cX9_leavesLess 81 = .ok (.iload_n 1, 1) := dk_27 (dk_at dksX9_leavesLess_3 11 rfl rfl)
theorem dX9_leavesLess_82 : decode cX9_leavesLess 82 = .ok (.iaload, 1) := dk_46 (dk_at dksX9_leavesLess_3 12 rfl rfl)
theorem dX9_leavesLess_83 : decode cX9_leavesLess 83 = .ok (.if_icmp .eq 7, 3) := dk_159 0 7 (dk_at dksX9_leavesLess_3 13 rfl rfl)
theorem dX9_leavesLess_86 : decode cX9_leavesLess 86 = .ok (.iconst 1, 1) := dk_4 (dk_at dksX9_leavesLess_3 16 rfl rfl)
theorem dX9_leavesLess_87 : decode cX9_leavesLess 87 = .ok (.goto 4, 3) := dk_167 0 4 (dk_at dksX9_leavesLess_3 17 rfl rfl)
theorem dX9_leavesLess_90 : decode cX9_leavesLess 90 = .ok (.iconst 0, 1) := dk_3 (dk_at dksX9_leavesLess_3 20 rfl rfl)
theorem dX9_leavesLess_91 : decode cX9_leavesLess 91 = .ok (.istore_n 3, 1) := dk_62 (dk_at dksX9_leavesLess_3 21 rfl rfl)
theorem dX9_leavesLess_92 : decode cX9_leavesLess 92 = .ok (.aload_n 0, 1) := dk_42 (dk_at dksX9_leavesLess_3 22 rfl rfl)
theorem dX9_leavesLess_93 : decode cX9_leavesLess 93 = .ok (.getfield 69, 3) := dk_180 0 69 (dk_at dksX9_leavesLess_4 0 rfl rfl)
theorem dX9_leavesLess_96 : decode cX9_leavesLess 96 = .ok (.iload_n 1, 1) := dk_27 (dk_at dksX9_leavesLess_4 3 rfl rfl)
theorem dX9_leavesLess_97 : decode cX9_leavesLess 97 = .ok (.iload_n 2, 1) := dk_28 (dk_at dksX9_leavesLess_4 4 rfl rfl)
theorem dX9_leavesLess_98 : decode cX9_leavesLess 98 = .ok (.iastore, 1) := dk_79 (dk_at dksX9_leavesLess_4 5 rfl rfl)
theorem dX9_leavesLess_99 : decode cX9_leavesLess 99 = .ok (.iload_n 3, 1) := dk_29 (dk_at dksX9_leavesLess_4 6 rfl rfl)
theorem dX9_leavesLess_100 : decode cX9_leavesLess 100 = .ok (.ireturn, 1) := dk_172 (dk_at dksX9_leavesLess_4 7 rfl rfl)
abbrev cX9_firstAt : ByteArray := prog_21_method_106_code
def yX9_firstAt : MethodName := ⟨RX9, "firstAt", "(II)I"⟩
def dkwX9_firstAt_4 : List UInt8 := [16, 10, 112, 4, 100, 182, 1, 44, 172]
abbrev dktX9_firstAt_4 : List UInt8 := dkwX9_firstAt_4 ++ []
def dkwX9_firstAt_3 : List UInt8 := [182, 0, 107, 167, 0, 28, 42, 28, 5, 160, 0, 13, 29, 16, 10, 108, 16, 10, 112, 167, 0, 7, 29]
abbrev dktX9_firstAt_3 : List UInt8 := dkwX9_firstAt_3 ++ dktX9_firstAt_4
def dkwX9_firstAt_2 : List UInt8 := [17, 3, 232, 108, 182, 0, 107, 167, 0, 47, 28, 4, 160, 0, 17, 42, 29, 16, 100, 108, 16, 10, 112]
abbrev dktX9_firstAt_2 : List UInt8 := dkwX9_firstAt_2 ++ dktX9_firstAt_3
def dkwX9_firstAt_1 : List UInt8 := [161, 0, 10, 42, 16, 6, 182, 0, 103, 172, 42, 180, 0, 82, 27, 46, 62, 28, 154, 0, 15, 42, 29]
abbrev dktX9_firstAt_1 : List UInt8 := dkwX9_firstAt_1 ++ dktX9_firstAt_2
def dkwX9_firstAt_0 : List UInt8 := [28, 155, 0, 8, 28, 6, 164, 0, 9, 42, 4, 182, 0, 103, 172, 27, 155, 0, 11, 27, 42, 180, 0, 79]
abbrev dktX9_firstAt_0 : List UInt8 := dkwX9_firstAt_0 ++ dktX9_firstAt_1
theorem dksX9_firstAt_0 : cX9_firstAt.data.toList.drop 0 = dktX9_firstAt_0 := by decide +kernel
theorem dksX9_firstAt_1 : cX9_firstAt.data.toList.drop 24 = dktX9_firstAt_1 := dk_seg dksX9_firstAt_0 24 rfl rfl
theorem dksX9_firstAt_2 : cX9_firstAt.data.toList.drop 47 = dktX9_firstAt_2 := dk_seg dksX9_firstAt_1 23 rfl rfl
theorem dksX9_firstAt_3 : cX9_firstAt.data.toList.drop 70 = dktX9_firstAt_3 := dk_seg dksX9_firstAt_2 23 rfl rfl
theorem dksX9_firstAt_4 : cX9_firstAt.data.toList.drop 93 = dktX9_firstAt_4 := dk_seg dksX9_firstAt_3 23 rfl rfl
theorem dX9_firstAt_0 : decode cX9_firstAt 0 = .ok (.iload_n 2, 1) := dk_28 (dk_at dksX9_firstAt_0 0 rfl rfl)
theorem dX9_firstAt_1 : decode cX9_firstAt 1 = .ok (.ifCond .lt 8, 3) := dk_155 0 8 (dk_at dksX9_firstAt_0 1 rfl rfl)
theorem dX9_firstAt_4 : decode cX9_firstAt 4 = .ok (.iload_n 2, 1) := dk_28 (dk_at dksX9_firstAt_0 4 rfl rfl)
theorem dX9_firstAt_5 : decode cX9_firstAt 5 = .ok (.iconst 3, 1) := dk_6 (dk_at dksX9_firstAt_0 5 rfl rfl)
theorem dX9_firstAt_6 : decode cX9_firstAt 6 = .ok (.if_icmp .le 9, 3) := dk_164 0 9 (dk_at dksX9_firstAt_0 6 rfl rfl)
theorem dX9_firstAt_9 : decode cX9_firstAt 9 = .ok (.aload_n 0, 1) := dk_42 (dk_at dksX9_firstAt_0 9 rfl rfl)
theorem dX9_firstAt_10 : decode cX9_firstAt 10 = .ok (.iconst 1, 1) := dk_4 (dk_at dksX9_firstAt_0 10 rfl rfl)
theorem dX9_firstAt_11 : decode cX9_firstAt 11 = .ok (.invokevirtual 103, 3) := dk_182 0 103 (dk_at dksX9_firstAt_0 11 rfl rfl)
theorem dX9_firstAt_14 : decode cX9_firstAt 14 = .ok (.ireturn, 1) := dk_172 (dk_at dksX9_firstAt_0 14 rfl rfl)
theorem dX9_firstAt_15 : decode cX9_firstAt 15 = .ok (.iload_n 1, 1) := dk_27 (dk_at dksX9_firstAt_0 15 rfl rfl)
theorem dX9_firstAt_16 : decode cX9_firstAt 16 = .ok (.ifCond .lt 11, 3) := dk_155 0 11 (dk_at dksX9_firstAt_0 16 rfl rfl)
theorem dX9_firstAt_19 : decode cX9_firstAt 19 = .ok (.iload_n 1, 1) := dk_27 (dk_at dksX9_firstAt_0 19 rfl rfl)
theorem dX9_firstAt_20 : decode cX9_firstAt 20 = .ok (.aload_n 0, 1) := dk_42 (dk_at dksX9_firstAt_0 20 rfl rfl)
theorem dX9_firstAt_21 : decode cX9_firstAt 21 = .ok (.getfield 79, 3) := dk_180 0 79 (dk_at dksX9_firstAt_0 21 rfl rfl)
theorem dX9_firstAt_24 : decode cX9_firstAt 24 = .ok (.if_icmp .lt 10, 3) := dk_161 0 10 (dk_at dksX9_firstAt_1 0 rfl rfl)
theorem dX9_firstAt_27 : decode cX9_firstAt 27 = .ok (.aload_n 0, 1) := dk_42 (dk_at dksX9_firstAt_1 3 rfl rfl)
theorem dX9_firstAt_28 : decode cX9_firstAt 28 = .ok (.bipush 6, 2) := dk_16 6 (dk_at dksX9_firstAt_1 4 rfl rfl)
theorem dX9_firstAt_30 : decode cX9_firstAt 30 = .ok (.invokevirtual 103, 3) := dk_182 0 103 (dk_at dksX9_firstAt_1 6 rfl rfl)
theorem dX9_firstAt_33 : decode cX9_firstAt 33 = .ok (.ireturn, 1) := dk_172 (dk_at dksX9_firstAt_1 9 rfl rfl)
theorem dX9_firstAt_34 : decode cX9_firstAt 34 = .ok (.aload_n 0, 1) := dk_42 (dk_at dksX9_firstAt_1 10 rfl rfl)
theorem dX9_firstAt_35 : decode cX9_firstAt 35 = .ok (.getfield 82, 3) := dk_180 0 82 (dk_at dksX9_firstAt_1 11 rfl rfl)
theorem dX9_firstAt_38 : decode cX9_firstAt 38 = .ok (.iload_n 1, 1) := dk_27 (dk_at dksX9_firstAt_1 14 rfl rfl)
theorem dX9_firstAt_39 : decode cX9_firstAt 39 = .ok (.iaload, 1) := dk_46 (dk_at dksX9_firstAt_1 15 rfl rfl)
theorem dX9_firstAt_40 : decode cX9_firstAt 40 = .ok (.istore_n 3, 1) := dk_62 (dk_at dksX9_firstAt_1 16 rfl rfl)
theorem dX9_firstAt_41 : decode cX9_firstAt 41 = .ok (.iload_n 2, 1) := dk_28 (dk_at dksX9_firstAt_1 17 rfl rfl)
theorem dX9_firstAt_42 : decode cX9_firstAt 42 = .ok (.ifCond .ne 15, 3) := dk_154 0 15 (dk_at dksX9_firstAt_1 18 rfl rfl)
theorem dX9_firstAt_45 : decode cX9_firstAt 45 = .ok (.aload_n 0, 1) := dk_42 (dk_at dksX9_firstAt_1 21 rfl rfl)
theorem dX9_firstAt_46 : decode cX9_firstAt 46 = .ok (.iload_n 3, 1) := dk_29 (dk_at dksX9_firstAt_1 22 rfl rfl)
theorem dX9_firstAt_47 : decode cX9_firstAt 47 = .ok (.sipush 1000, 3) := dk_17 3 232 (dk_at dksX9_firstAt_2 0 rfl rfl)
theorem dX9_firstAt_50 : decode cX9_firstAt 50 = .ok (.idiv, 1) := dk_108 (dk_at dksX9_firstAt_2 3 rfl rfl)
theorem dX9_firstAt_51 : decode cX9_firstAt 51 = .ok (.invokevirtual 107, 3) := dk_182 0 107 (dk_at dksX9_firstAt_2 4 rfl rfl)
theorem dX9_firstAt_54 : decode cX9_firstAt 54 = .ok (.goto 47, 3) := dk_167 0 47 (dk_at dksX9_firstAt_2 7 rfl rfl)
theorem dX9_firstAt_57 : decode cX9_firstAt 57 = .ok (.iload_n 2, 1) := dk_28 (dk_at dksX9_firstAt_2 10 rfl rfl)
theorem dX9_firstAt_58 : decode cX9_firstAt 58 = .ok (.iconst 1, 1) := dk_4 (dk_at dksX9_firstAt_2 11 rfl rfl)
theorem dX9_firstAt_59 : decode cX9_firstAt 59 = .ok (.if_icmp .ne 17, 3) := dk_160 0 17 (dk_at dksX9_firstAt_2 12 rfl rfl)
theorem dX9_firstAt_62 : decode cX9_firstAt 62 = .ok (.aload_n 0, 1) := dk_42 (dk_at dksX9_firstAt_2 15 rfl rfl)
theorem dX9_firstAt_63 : decode cX9_firstAt 63 = .ok (.iload_n 3, 1) := dk_29 (dk_at dksX9_firstAt_2 16 rfl rfl)
theorem dX9_firstAt_64 : decode cX9_firstAt 64 = .ok (.bipush 100, 2) := dk_16 100 (dk_at dksX9_firstAt_2 17 rfl rfl)
theorem dX9_firstAt_66 : decode cX9_firstAt 66 = .ok (.idiv, 1) := dk_108 (dk_at dksX9_firstAt_2 19 rfl rfl)
theorem dX9_firstAt_67 : decode cX9_firstAt 67 = .ok (.bipush 10, 2) := dk_16 10 (dk_at dksX9_firstAt_2 20 rfl rfl)
theorem dX9_firstAt_69 : decode cX9_firstAt 69 = .ok (.irem, 1) := dk_112 (dk_at dksX9_firstAt_2 22 rfl rfl)
theorem dX9_firstAt_70 : decode cX9_firstAt 70 = .ok (.invokevirtual 107, 3) := dk_182 0 107 (dk_at dksX9_firstAt_3 0 rfl rfl)
theorem dX9_firstAt_73 : decode cX9_firstAt 73 = .ok (.goto 28, 3) := dk_167 0 28 (dk_at dksX9_firstAt_3 3 rfl rfl)
theorem dX9_firstAt_76 : decode cX9_firstAt 76 = .ok (.aload_n 0, 1) := dk_42 (dk_at dksX9_firstAt_3 6 rfl rfl)
theorem dX9_firstAt_77 : decode cX9_firstAt 77 = .ok (.iload_n 2, 1) := dk_28 (dk_at dksX9_firstAt_3 7 rfl rfl)
theorem dX9_firstAt_78 : decode cX9_firstAt 78 = .ok (.iconst 2, 1) := dk_5 (dk_at dksX9_firstAt_3 8 rfl rfl)
theorem dX9_firstAt_79 : decode cX9_firstAt 79 = .ok (.if_icmp .ne 13, 3) := dk_160 0 13 (dk_at dksX9_firstAt_3 9 rfl rfl)
theorem dX9_firstAt_82 : decode cX9_firstAt 82 = .ok (.iload_n 3, 1) := dk_29 (dk_at dksX9_firstAt_3 12 rfl rfl)
theorem dX9_firstAt_83 : decode cX9_firstAt 83 = .ok (.bipush 10, 2) := dk_16 10 (dk_at dksX9_firstAt_3 13 rfl rfl)
theorem dX9_firstAt_85 : decode cX9_firstAt 85 = .ok (.idiv, 1) := dk_108 (dk_at dksX9_firstAt_3 15 rfl rfl)
theorem dX9_firstAt_86 : decode cX9_firstAt 86 = .ok (.bipush 10, 2) := dk_16 10 (dk_at dksX9_firstAt_3 16 rfl rfl)
theorem dX9_firstAt_88 : decode cX9_firstAt 88 = .ok (.irem, 1) := dk_112 (dk_at dksX9_firstAt_3 18 rfl rfl)
theorem dX9_firstAt_89 : decode cX9_firstAt 89 = .ok (.goto 7, 3) := dk_167 0 7 (dk_at dksX9_firstAt_3 19 rfl rfl)
theorem dX9_firstAt_92 : decode cX9_firstAt 92 = .ok (.iload_n 3, 1) := dk_29 (dk_at dksX9_firstAt_3 22 rfl rfl)
theorem dX9_firstAt_93 : decode cX9_firstAt 93 = .ok (.bipush 10, 2) := dk_16 10 (dk_at dksX9_firstAt_4 0 rfl rfl)
theorem dX9_firstAt_95 : decode cX9_firstAt 95 = .ok (.irem, 1) := dk_112 (dk_at dksX9_firstAt_4 2 rfl rfl)
theorem dX9_firstAt_96 : decode cX9_firstAt 96 = .ok (.iconst 1, 1) := dk_4 (dk_at dksX9_firstAt_4 3 rfl rfl)
theorem dX9_firstAt_97 : decode cX9_firstAt 97 = .ok (.isub, 1) := dk_100 (dk_at dksX9_firstAt_4 4 rfl rfl)
theorem dX9_firstAt_98 : decode cX9_firstAt 98 = .ok (.invokevirtual 300, 3) := dk_182 1 44 (dk_at dksX9_firstAt_4 5 rfl rfl)
theorem dX9_firstAt_101 : decode cX9_firstAt 101 = .ok (.ireturn, 1) := dk_172 (dk_at dksX9_firstAt_4 8 rfl rfl)
abbrev cX9_reach : ByteArray := prog_21_method_107_code
def yX9_reach : MethodName := ⟨RX9, "reach", "(I)I"⟩
def dkwX9_reach_2 : List UInt8 := [120, 128, 61, 132, 3, 1, 167, 255, 224, 42, 28, 182, 0, 107, 172]
abbrev dktX9_reach_2 : List UInt8 := dkwX9_reach_2 ++ []
def dkwX9_reach_1 : List UInt8 := [180, 1, 117, 162, 0, 30, 42, 42, 180, 0, 72, 29, 46, 182, 1, 105, 28, 4, 42, 180, 0, 47, 27, 46]
abbrev dktX9_reach_1 : List UInt8 := dkwX9_reach_1 ++ dktX9_reach_2
def dkwX9_reach_0 : List UInt8 := [42, 27, 182, 1, 41, 154, 0, 9, 42, 4, 182, 0, 103, 172, 42, 182, 1, 129, 3, 61, 3, 62, 29, 42]
abbrev dktX9_reach_0 : List UInt8 := dkwX9_reach_0 ++ dktX9_reach_1
theorem dksX9_reach_0 : cX9_reach.data.toList.drop 0 = dktX9_reach_0 := by decide +kernel
theorem dksX9_reach_1 : cX9_reach.data.toList.drop 24 = dktX9_reach_1 := dk_seg dksX9_reach_0 24 rfl rfl
theorem dksX9_reach_2 : cX9_reach.data.toList.drop 48 = dktX9_reach_2 := dk_seg dksX9_reach_1 24 rfl rfl
theorem dX9_reach_0 : decode cX9_reach 0 = .ok (.aload_n 0, 1) := dk_42 (dk_at dksX9_reach_0 0 rfl rfl)
theorem dX9_reach_1 : decode cX9_reach 1 = .ok (.iload_n 1, 1) := dk_27 (dk_at dksX9_reach_0 1 rfl rfl)
theorem dX9_reach_2 : decode cX9_reach 2 = .ok (.invokevirtual 297, 3) := dk_182 1 41 (dk_at dksX9_reach_0 2 rfl rfl)
theorem dX9_reach_5 : decode cX9_reach 5 = .ok (.ifCond .ne 9, 3) := dk_154 0 9 (dk_at dksX9_reach_0 5 rfl rfl)
theorem dX9_reach_8 : decode cX9_reach 8 = .ok (.aload_n 0, 1) := dk_42 (dk_at dksX9_reach_0 8 rfl rfl)
theorem dX9_reach_9 : decode cX9_reach 9 = .ok (.iconst 1, 1) := dk_4 (dk_at dksX9_reach_0 9 rfl rfl)
theorem dX9_reach_10 : decode cX9_reach 10 = .ok (.invokevirtual 103, 3) := dk_182 0 103 (dk_at dksX9_reach_0 10 rfl rfl)
theorem dX9_reach_13 : decode cX9_reach 13 = .ok (.ireturn, 1) := dk_172 (dk_at dksX9_reach_0 13 rfl rfl)
theorem dX9_reach_14 : decode cX9_reach 14 = .ok (.aload_n 0, 1) := dk_42 (dk_at dksX9_reach_0 14 rfl rfl)
theorem dX9_reach_15 : decode cX9_reach 15 = .ok (.invokevirtual 385, 3) := dk_182 1 129 (dk_at dksX9_reach_0 15 rfl rfl)
theorem dX9_reach_18 : decode cX9_reach 18 = .ok (.iconst 0, 1) := dk_3 (dk_at dksX9_reach_0 18 rfl rfl)
theorem dX9_reach_19 : decode cX9_reach 19 = .ok (.istore_n 2, 1) := dk_61 (dk_at dksX9_reach_0 19 rfl rfl)
theorem dX9_reach_20 : decode cX9_reach 20 = .ok (.iconst 0, 1) := dk_3 (dk_at dksX9_reach_0 20 rfl rfl)
theorem dX9_reach_21 : decode cX9_reach 21 = .ok (.istore_n 3, 1) := dk_62 (dk_at dksX9_reach_0 21 rfl rfl)
theorem dX9_reach_22 : decode cX9_reach 22 = .ok (.iload_n 3, 1) := dk_29 (dk_at dksX9_reach_0 22 rfl rfl)
theorem dX9_reach_23 : decode cX9_reach 23 = .ok (.aload_n 0, 1) := dk_42 (dk_at dksX9_reach_0 23 rfl rfl)
theorem dX9_reach_24 : decode cX9_reach 24 = .ok (.getfield 373, 3) := dk_180 1 117 (dk_at dksX9_reach_1 0 rfl rfl)
theorem dX9_reach_27 : decode cX9_reach 27 = .ok (.if_icmp .ge 30, 3) := dk_162 0 30 (dk_at dksX9_reach_1 3 rfl rfl)
theorem dX9_reach_30 : decode cX9_reach 30 = .ok (.aload_n 0, 1) := dk_42 (dk_at dksX9_reach_1 6 rfl rfl)
theorem dX9_reach_31 : decode cX9_reach 31 = .ok (.aload_n 0, 1) := dk_42 (dk_at dksX9_reach_1 7 rfl rfl)
theorem dX9_reach_32 : decode cX9_reach 32 = .ok (.getfield 72, 3) := dk_180 0 72 (dk_at dksX9_reach_1 8 rfl rfl)
theorem dX9_reach_35 : decode cX9_reach 35 = .ok (.iload_n 3, 1) := dk_29 (dk_at dksX9_reach_1 11 rfl rfl)
theorem dX9_reach_36 : decode cX9_reach 36 = .ok (.iaload, 1) := dk_46 (dk_at dksX9_reach_1 12 rfl rfl)
theorem dX9_reach_37 : decode cX9_reach 37 = .ok (.invokevirtual 361, 3) := dk_182 1 105 (dk_at dksX9_reach_1 13 rfl rfl)
theorem dX9_reach_40 : decode cX9_reach 40 = .ok (.iload_n 2, 1) := dk_28 (dk_at dksX9_reach_1 16 rfl rfl)
theorem dX9_reach_41 : decode cX9_reach 41 = .ok (.iconst 1, 1) := dk_4 (dk_at dksX9_reach_1 17 rfl rfl)
theorem dX9_reach_42 : decode cX9_reach 42 = .ok (.aload_n 0, 1) := dk_42 (dk_at dksX9_reach_1 18 rfl rfl)
theorem dX9_reach_43 : decode cX9_reach 43 = .ok (.getfield 47, 3) := dk_180 0 47 (dk_at dksX9_reach_1 19 rfl rfl)
theorem dX9_reach_46 : decode cX9_reach 46 = .ok (.iload_n 1, 1) := dk_27 (dk_at dksX9_reach_1 22 rfl rfl)
theorem dX9_reach_47 : decode cX9_reach 47 = .ok (.iaload, 1) := dk_46 (dk_at dksX9_reach_1 23 rfl rfl)
theorem dX9_reach_48 : decode cX9_reach 48 = .ok (.ishl, 1) := dk_120 (dk_at dksX9_reach_2 0 rfl rfl)
theorem dX9_reach_49 : decode cX9_reach 49 = .ok (.ior, 1) := dk_128 (dk_at dksX9_reach_2 1 rfl rfl)
theorem dX9_reach_50 : decode cX9_reach 50 = .ok (.istore_n 2, 1) := dk_61 (dk_at dksX9_reach_2 2 rfl rfl)
theorem dX9_reach_51 : decode cX9_reach 51 = .ok (.iinc 3 1, 3) := dk_132 3 1 (dk_at dksX9_reach_2 3 rfl rfl)
theorem dX9_reach_54 : decode cX9_reach 54 = .ok (.goto (-32), 3) := dk_167 255 224 (dk_at dksX9_reach_2 6 rfl rfl)
theorem dX9_reach_57 : decode cX9_reach 57 = .ok (.aload_n 0, 1) := dk_42 (dk_at dksX9_reach_2 9 rfl rfl)
theorem dX9_reach_58 : decode cX9_reach 58 = .ok (.iload_n 2, 1) := dk_28 (dk_at dksX9_reach_2 10 rfl rfl)
theorem dX9_reach_59 : decode cX9_reach 59 = .ok (.invokevirtual 107, 3) := dk_182 0 107 (dk_at dksX9_reach_2 11 rfl rfl)
theorem dX9_reach_62 : decode cX9_reach 62 = .ok (.ireturn, 1) := dk_172 (dk_at dksX9_reach_2 14 rfl rfl)
abbrev cX9_fewest : ByteArray := prog_21_method_108_code
def yX9_fewest : MethodName := ⟨RX9, "fewest", "(II)I"⟩
def dkwX9_fewest_3 : List UInt8 := [172, 132, 3, 1, 167, 255, 209, 42, 16, 6, 182, 0, 103, 172]
abbrev dktX9_fewest_3 : List UInt8 := dkwX9_fewest_3 ++ []
def dkwX9_fewest_2 : List UInt8 := [180, 0, 47, 27, 46, 28, 160, 0, 19, 42, 42, 180, 0, 69, 42, 180, 0, 72, 29, 46, 46, 182, 0, 107]
abbrev dktX9_fewest_2 : List UInt8 := dkwX9_fewest_2 ++ dktX9_fewest_3
def dkwX9_fewest_1 : List UInt8 := [182, 1, 129, 3, 62, 29, 42, 180, 1, 117, 162, 0, 45, 42, 42, 180, 0, 72, 29, 46, 182, 1, 105, 42]
abbrev dktX9_fewest_1 : List UInt8 := dkwX9_fewest_1 ++ dktX9_fewest_2
def dkwX9_fewest_0 : List UInt8 := [42, 27, 182, 1, 41, 153, 0, 11, 42, 28, 182, 1, 47, 154, 0, 9, 42, 4, 182, 0, 103, 172, 42]
abbrev dktX9_fewest_0 : List UInt8 := dkwX9_fewest_0 ++ dktX9_fewest_1
theorem dksX9_fewest_0 : cX9_fewest.data.toList.drop 0 = dktX9_fewest_0 := by decide +kernel
theorem dksX9_fewest_1 : cX9_fewest.data.toList.drop 23 = dktX9_fewest_1 := dk_seg dksX9_fewest_0 23 rfl rfl
theorem dksX9_fewest_2 : cX9_fewest.data.toList.drop 47 = dktX9_fewest_2 := dk_seg dksX9_fewest_1 24 rfl rfl
theorem dksX9_fewest_3 : cX9_fewest.data.toList.drop 71 = dktX9_fewest_3 := dk_seg dksX9_fewest_2 24 rfl rfl
theorem dX9_fewest_0 : decode cX9_fewest 0 = .ok (.aload_n 0, 1) := dk_42 (dk_at dksX9_fewest_0 0 rfl rfl)
theorem dX9_fewest_1 : decode cX9_fewest 1 = .ok (.iload_n 1, 1) := dk_27 (dk_at dksX9_fewest_0 1 rfl rfl)
theorem dX9_fewest_2 : decode cX9_fewest 2 = .ok (.invokevirtual 297, 3) := dk_182 1 41 (dk_at dksX9_fewest_0 2 rfl rfl)
theorem dX9_fewest_5 : decode cX9_fewest 5 = .ok (.ifCond .eq 11, 3) := dk_153 0 11 (dk_at dksX9_fewest_0 5 rfl rfl)
theorem dX9_fewest_8 : decode cX9_fewest 8 = .ok (.aload_n 0, 1) := dk_42 (dk_at dksX9_fewest_0 8 rfl rfl)
theorem dX9_fewest_9 : decode cX9_fewest 9 = .ok (.iload_n 2, 1) := dk_28 (dk_at dksX9_fewest_0 9 rfl rfl)
theorem dX9_fewest_10 : decode cX9_fewest 10 = .ok (.invokevirtual 303, 3) := dk_182 1 47 (dk_at dksX9_fewest_0 10 rfl rfl)
theorem dX9_fewest_13 : decode cX9_fewest 13 = .ok (.ifCond .ne 9, 3) := dk_154 0 9 (dk_at dksX9_fewest_0 13 rfl rfl)
theorem dX9_fewest_16 : decode cX9_fewest 16 = .ok (.aload_n 0, 1) := dk_42 (dk_at dksX9_fewest_0 16 rfl rfl)
theorem dX9_fewest_17 : decode cX9_fewest 17 = .ok (.iconst 1, 1) := dk_4 (dk_at dksX9_fewest_0 17 rfl rfl)
theorem dX9_fewest_18 : decode cX9_fewest 18 = .ok (.invokevirtual 103, 3) := dk_182 0 103 (dk_at dksX9_fewest_0 18 rfl rfl)
theorem dX9_fewest_21 : decode cX9_fewest 21 = .ok (.ireturn, 1) := dk_172 (dk_at dksX9_fewest_0 21 rfl rfl)
theorem dX9_fewest_22 : decode cX9_fewest 22 = .ok (.aload_n 0, 1) := dk_42 (dk_at dksX9_fewest_0 22 rfl rfl)
theorem dX9_fewest_23 : decode cX9_fewest 23 = .ok (.invokevirtual 385, 3) := dk_182 1 129 (dk_at dksX9_fewest_1 0 rfl rfl)
theorem dX9_fewest_26 : decode cX9_fewest 26 = .ok (.iconst 0, 1) := dk_3 (dk_at dksX9_fewest_1 3 rfl rfl)
theorem dX9_fewest_27 : decode cX9_fewest 27 = .ok (.istore_n 3, 1) := dk_62 (dk_at dksX9_fewest_1 4 rfl rfl)
theorem dX9_fewest_28 : decode cX9_fewest 28 = .ok (.iload_n 3, 1) := dk_29 (dk_at dksX9_fewest_1 5 rfl rfl)
theorem dX9_fewest_29 : decode cX9_fewest 29 = .ok (.aload_n 0, 1) := dk_42 (dk_at dksX9_fewest_1 6 rfl rfl)
theorem dX9_fewest_30 : decode cX9_fewest 30 = .ok (.getfield 373, 3) := dk_180 1 117 (dk_at dksX9_fewest_1 7 rfl rfl)
theorem dX9_fewest_33 : decode cX9_fewest 33 = .ok (.if_icmp .ge 45, 3) := dk_162 0 45 (dk_at dksX9_fewest_1 10 rfl rfl)
theorem dX9_fewest_36 : decode cX9_fewest 36 = .ok (.aload_n 0, 1) := dk_42 (dk_at dksX9_fewest_1 13 rfl rfl)
theorem dX9_fewest_37 : decode cX9_fewest 37 = .ok (.aload_n 0, 1) := dk_42 (dk_at dksX9_fewest_1 14 rfl rfl)
theorem dX9_fewest_38 : decode cX9_fewest 38 = .ok (.getfield 72, 3) := dk_180 0 72 (dk_at dksX9_fewest_1 15 rfl rfl)
theorem dX9_fewest_41 : decode cX9_fewest 41 = .ok (.iload_n 3, 1) := dk_29 (dk_at dksX9_fewest_1 18 rfl rfl)
theorem dX9_fewest_42 : decode cX9_fewest 42 = .ok (.iaload, 1) := dk_46 (dk_at dksX9_fewest_1 19 rfl rfl)
theorem dX9_fewest_43 : decode cX9_fewest 43 = .ok (.invokevirtual 361, 3) := dk_182 1 105 (dk_at dksX9_fewest_1 20 rfl rfl)
theorem dX9_fewest_46 : decode cX9_fewest 46 = .ok (.aload_n 0, 1) := dk_42 (dk_at dksX9_fewest_1 23 rfl rfl)
theorem dX9_fewest_47 : decode cX9_fewest 47 = .ok (.getfield 47, 3) := dk_180 0 47 (dk_at dksX9_fewest_2 0 rfl rfl)
theorem dX9_fewest_50 : decode cX9_fewest 50 = .ok (.iload_n 1, 1) := dk_27 (dk_at dksX9_fewest_2 3 rfl rfl)
theorem dX9_fewest_51 : decode cX9_fewest 51 = .ok (.iaload, 1) := dk_46 (dk_at dksX9_fewest_2 4 rfl rfl)
theorem dX9_fewest_52 : decode cX9_fewest 52 = .ok (.iload_n 2, 1) := dk_28 (dk_at dksX9_fewest_2 5 rfl rfl)
theorem dX9_fewest_53 : decode cX9_fewest 53 = .ok (.if_icmp .ne 19, 3) := dk_160 0 19 (dk_at dksX9_fewest_2 6 rfl rfl)
theorem dX9_fewest_56 : decode cX9_fewest 56 = .ok (.aload_n 0, 1) := dk_42 (dk_at dksX9_fewest_2 9 rfl rfl)
theorem dX9_fewest_57 : decode cX9_fewest 57 = .ok (.aload_n 0, 1) := dk_42 (dk_at dksX9_fewest_2 10 rfl rfl)
theorem dX9_fewest_58 : decode cX9_fewest 58 = .ok (.getfield 69, 3) := dk_180 0 69 (dk_at dksX9_fewest_2 11 rfl rfl)
theorem dX9_fewest_61 : decode cX9_fewest 61 = .ok (.aload_n 0, 1) := dk_42 (dk_at dksX9_fewest_2 14 rfl rfl)
theorem dX9_fewest_62 : decode cX9_fewest 62 = .ok (.getfield 72, 3) := dk_180 0 72 (dk_at dksX9_fewest_2 15 rfl rfl)
theorem dX9_fewest_65 : decode cX9_fewest 65 = .ok (.iload_n 3, 1) := dk_29 (dk_at dksX9_fewest_2 18 rfl rfl)
theorem dX9_fewest_66 : decode cX9_fewest 66 = .ok (.iaload, 1) := dk_46 (dk_at dksX9_fewest_2 19 rfl rfl)
theorem dX9_fewest_67 : decode cX9_fewest 67 = .ok (.iaload, 1) := dk_46 (dk_at dksX9_fewest_2 20 rfl rfl)
theorem dX9_fewest_68 : decode cX9_fewest 68 = .ok (.invokevirtual 107, 3) := dk_182 0 107 (dk_at dksX9_fewest_2 21 rfl rfl)
theorem dX9_fewest_71 : decode cX9_fewest 71 = .ok (.ireturn, 1) := dk_172 (dk_at dksX9_fewest_3 0 rfl rfl)
theorem dX9_fewest_72 : decode cX9_fewest 72 = .ok (.iinc 3 1, 3) := dk_132 3 1 (dk_at dksX9_fewest_3 1 rfl rfl)
theorem dX9_fewest_75 : decode cX9_fewest 75 = .ok (.goto (-47), 3) := dk_167 255 209 (dk_at dksX9_fewest_3 4 rfl rfl)
theorem dX9_fewest_78 : decode cX9_fewest 78 = .ok (.aload_n 0, 1) := dk_42 (dk_at dksX9_fewest_3 7 rfl rfl)
theorem dX9_fewest_79 : decode cX9_fewest 79 = .ok (.bipush 6, 2) := dk_16 6 (dk_at dksX9_fewest_3 8 rfl rfl)
theorem dX9_fewest_81 : decode cX9_fewest 81 = .ok (.invokevirtual 103, 3) := dk_182 0 103 (dk_at dksX9_fewest_3 10 rfl rfl)
theorem dX9_fewest_84 : decode cX9_fewest 84 = .ok (.ireturn, 1) := dk_172 (dk_at dksX9_fewest_3 13 rfl rfl)
abbrev cX9_states : ByteArray := prog_21_method_109_code
def yX9_states : MethodName := ⟨RX9, "states", "()I"⟩
def dkwX9_states_0 : List UInt8 := [42, 182, 1, 129, 42, 42, 180, 1, 117, 182, 0, 107, 172]
abbrev dktX9_states_0 : List UInt8 := dkwX9_states_0 ++ []
theorem dksX9_states_0 : cX9_states.data.toList.drop 0 = dktX9_states_0 := by decide +kernel
theorem dX9_states_0 : decode cX9_states 0 = .ok (.aload_n 0, 1) := dk_42 (dk_at dksX9_states_0 0 rfl rfl)
theorem dX9_states_1 : decode cX9_states 1 = .ok (.invokevirtual 385, 3) := dk_182 1 129 (dk_at dksX9_states_0 1 rfl rfl)
theorem dX9_states_4 : decode cX9_states 4 = .ok (.aload_n 0, 1) := dk_42 (dk_at dksX9_states_0 4 rfl rfl)
theorem dX9_states_5 : decode cX9_states 5 = .ok (.aload_n 0, 1) := dk_42 (dk_at dksX9_states_0 5 rfl rfl)
theorem dX9_states_6 : decode cX9_states 6 = .ok (.getfield 373, 3) := dk_180 1 117 (dk_at dksX9_states_0 6 rfl rfl)
theorem dX9_states_9 : decode cX9_states 9 = .ok (.invokevirtual 107, 3) := dk_182 0 107 (dk_at dksX9_states_0 9 rfl rfl)
theorem dX9_states_12 : decode cX9_states 12 = .ok (.ireturn, 1) := dk_172 (dk_at dksX9_states_0 12 rfl rfl)
abbrev cX9_most : ByteArray := prog_21_method_110_code
def yX9_most : MethodName := ⟨RX9, "most", "(I)I"⟩
def dkwX9_most_4 : List UInt8 := [28, 61, 132, 3, 1, 167, 255, 178, 42, 28, 182, 0, 107, 172]
abbrev dktX9_most_4 : List UInt8 := dkwX9_most_4 ++ []
def dkwX9_most_3 : List UInt8 := [167, 0, 4, 3, 96, 54, 4, 132, 5, 1, 167, 255, 221, 21, 4, 28, 164, 0, 8, 21, 4, 167, 0, 4]
abbrev dktX9_most_3 : List UInt8 := dkwX9_most_3 ++ dktX9_most_4
def dkwX9_most_2 : List UInt8 := [42, 180, 0, 7, 5, 46, 162, 0, 30, 21, 4, 42, 180, 0, 47, 21, 5, 46, 27, 160, 0, 7, 4]
abbrev dktX9_most_2 : List UInt8 := dkwX9_most_2 ++ dktX9_most_3
def dkwX9_most_1 : List UInt8 := [180, 1, 117, 162, 0, 76, 42, 42, 180, 0, 72, 29, 46, 182, 1, 105, 3, 54, 4, 3, 54, 5, 21, 5]
abbrev dktX9_most_1 : List UInt8 := dkwX9_most_1 ++ dktX9_most_2
def dkwX9_most_0 : List UInt8 := [42, 27, 182, 1, 47, 154, 0, 9, 42, 4, 182, 0, 103, 172, 42, 182, 1, 129, 3, 61, 3, 62, 29, 42]
abbrev dktX9_most_0 : List UInt8 := dkwX9_most_0 ++ dktX9_most_1
theorem dksX9_most_0 : cX9_most.data.toList.drop 0 = dktX9_most_0 := by decide +kernel
theorem dksX9_most_1 : cX9_most.data.toList.drop 24 = dktX9_most_1 := dk_seg dksX9_most_0 24 rfl rfl
theorem dksX9_most_2 : cX9_most.data.toList.drop 48 = dktX9_most_2 := dk_seg dksX9_most_1 24 rfl rfl
theorem dksX9_most_3 : cX9_most.data.toList.drop 71 = dktX9_most_3 := dk_seg dksX9_most_2 23 rfl rfl
theorem dksX9_most_4 : cX9_most.data.toList.drop 95 = dktX9_most_4 := dk_seg dksX9_most_3 24 rfl rfl
theorem dX9_most_0 : decode cX9_most 0 = .ok (.aload_n 0, 1) := dk_42 (dk_at dksX9_most_0 0 rfl rfl)
theorem dX9_most_1 : decode cX9_most 1 = .ok (.iload_n 1, 1) := dk_27 (dk_at dksX9_most_0 1 rfl rfl)
theorem dX9_most_2 : decode cX9_most 2 = .ok (.invokevirtual 303, 3) := dk_182 1 47 (dk_at dksX9_most_0 2 rfl rfl)
theorem dX9_most_5 : decode cX9_most 5 = .ok (.ifCond .ne 9, 3) := dk_154 0 9 (dk_at dksX9_most_0 5 rfl rfl)
theorem dX9_most_8 : decode cX9_most 8 = .ok (.aload_n 0, 1) := dk_42 (dk_at dksX9_most_0 8 rfl rfl)
theorem dX9_most_9 : decode cX9_most 9 = .ok (.iconst 1, 1) := dk_4 (dk_at dksX9_most_0 9 rfl rfl)
theorem dX9_most_10 : decode cX9_most 10 = .ok (.invokevirtual 103, 3) := dk_182 0 103 (dk_at dksX9_most_0 10 rfl rfl)
theorem dX9_most_13 : decode cX9_most 13 = .ok (.ireturn, 1) := dk_172 (dk_at dksX9_most_0 13 rfl rfl)
theorem dX9_most_14 : decode cX9_most 14 = .ok (.aload_n 0, 1) := dk_42 (dk_at dksX9_most_0 14 rfl rfl)
theorem dX9_most_15 : decode cX9_most 15 = .ok (.invokevirtual 385, 3) := dk_182 1 129 (dk_at dksX9_most_0 15 rfl rfl)
theorem dX9_most_18 : decode cX9_most 18 = .ok (.iconst 0, 1) := dk_3 (dk_at dksX9_most_0 18 rfl rfl)
theorem dX9_most_19 : decode cX9_most 19 = .ok (.istore_n 2, 1) := dk_61 (dk_at dksX9_most_0 19 rfl rfl)
theorem dX9_most_20 : decode cX9_most 20 = .ok (.iconst 0, 1) := dk_3 (dk_at dksX9_most_0 20 rfl rfl)
theorem dX9_most_21 : decode cX9_most 21 = .ok (.istore_n 3, 1) := dk_62 (dk_at dksX9_most_0 21 rfl rfl)
theorem dX9_most_22 : decode cX9_most 22 = .ok (.iload_n 3, 1) := dk_29 (dk_at dksX9_most_0 22 rfl rfl)
theorem dX9_most_23 : decode cX9_most 23 = .ok (.aload_n 0, 1) := dk_42 (dk_at dksX9_most_0 23 rfl rfl)
theorem dX9_most_24 : decode cX9_most 24 = .ok (.getfield 373, 3) := dk_180 1 117 (dk_at dksX9_most_1 0 rfl rfl)
theorem dX9_most_27 : decode cX9_most 27 = .ok (.if_icmp .ge 76, 3) := dk_162 0 76 (dk_at dksX9_most_1 3 rfl rfl)
theorem dX9_most_30 : decode cX9_most 30 = .ok (.aload_n 0, 1) := dk_42 (dk_at dksX9_most_1 6 rfl rfl)
theorem dX9_most_31 : decode cX9_most 31 = .ok (.aload_n 0, 1) := dk_42 (dk_at dksX9_most_1 7 rfl rfl)
theorem dX9_most_32 : decode cX9_most 32 = .ok (.getfield 72, 3) := dk_180 0 72 (dk_at dksX9_most_1 8 rfl rfl)
theorem dX9_most_35 : decode cX9_most 35 = .ok (.iload_n 3, 1) := dk_29 (dk_at dksX9_most_1 11 rfl rfl)
theorem dX9_most_36 : decode cX9_most 36 = .ok (.iaload, 1) := dk_46 (dk_at dksX9_most_1 12 rfl rfl)
theorem dX9_most_37 : decode cX9_most 37 = .ok (.invokevirtual 361, 3) := dk_182 1 105 (dk_at dksX9_most_1 13 rfl rfl)
theorem dX9_most_40 : decode cX9_most 40 = .ok (.iconst 0, 1) := dk_3 (dk_at dksX9_most_1 16 rfl rfl)
theorem dX9_most_41 : decode cX9_most 41 = .ok (.istore 4, 2) := dk_54 4 (dk_at dksX9_most_1 17 rfl rfl)
theorem dX9_most_43 : decode cX9_most 43 = .ok (.iconst 0, 1) := dk_3 (dk_at dksX9_most_1 19 rfl rfl)
theorem dX9_most_44 : decode cX9_most 44 = .ok (.istore 5, 2) := dk_54 5 (dk_at dksX9_most_1 20 rfl rfl)
theorem dX9_most_46 : decode cX9_most 46 = .ok (.iload 5, 2) := dk_21 5 (dk_at dksX9_most_1 22 rfl rfl)
theorem dX9_most_48 : decode cX9_most 48 = .ok (.aload_n 0, 1) := dk_42 (dk_at dksX9_most_2 0 rfl rfl)
theorem dX9_most_49 : decode cX9_most 49 = .ok (.getfield 7, 3) := dk_180 0 7 (dk_at dksX9_most_2 1 rfl rfl)
theorem dX9_most_52 : decode cX9_most 52 = .ok (.iconst 2, 1) := dk_5 (dk_at dksX9_most_2 4 rfl rfl)
theorem dX9_most_53 : decode cX9_most 53 = .ok (.iaload, 1) := dk_46 (dk_at dksX9_most_2 5 rfl rfl)
theorem dX9_most_54 : decode cX9_most 54 = .ok (.if_icmp .ge 30, 3) := dk_162 0 30 (dk_at dksX9_most_2 6 rfl rfl)
theorem dX9_most_57 : decode cX9_most 57 = .ok (.iload 4, 2) := dk_21 4 (dk_at dksX9_most_2 9 rfl rfl)
theorem dX9_most_59 : decode cX9_most 59 = .ok (.aload_n 0, 1) := dk_42 (dk_at dksX9_most_2 11 rfl rfl)
theorem dX9_most_60 : decode cX9_most 60 = .ok (.getfield 47, 3) := dk_180 0 47 (dk_at dksX9_most_2 12 rfl rfl)
theorem dX9_most_63 : decode cX9_most 63 = .ok (.iload 5, 2) := dk_21 5 (dk_at dksX9_most_2 15 rfl rfl)
theorem dX9_most_65 : decode cX9_most 65 = .ok (.iaload, 1) := dk_46 (dk_at dksX9_most_2 17 rfl rfl)
theorem dX9_most_66 : decode cX9_most 66 = .ok (.iload_n 1, 1) := dk_27 (dk_at dksX9_most_2 18 rfl rfl)
theorem dX9_most_67 : decode cX9_most 67 = .ok (.if_icmp .ne 7, 3) := dk_160 0 7 (dk_at dksX9_most_2 19 rfl rfl)
theorem dX9_most_70 : decode cX9_most 70 = .ok (.iconst 1, 1) := dk_4 (dk_at dksX9_most_2 22 rfl rfl)
theorem dX9_most_71 : decode cX9_most 71 = .ok (.goto 4, 3) := dk_167 0 4 (dk_at dksX9_most_3 0 rfl rfl)
theorem dX9_most_74 : decode cX9_most 74 = .ok (.iconst 0, 1) := dk_3 (dk_at dksX9_most_3 3 rfl rfl)
theorem dX9_most_75 : decode cX9_most 75 = .ok (.iadd, 1) := dk_96 (dk_at dksX9_most_3 4 rfl rfl)
theorem dX9_most_76 : decode cX9_most 76 = .ok (.istore 4, 2) := dk_54 4 (dk_at dksX9_most_3 5 rfl rfl)
theorem dX9_most_78 : decode cX9_most 78 = .ok (.iinc 5 1, 3) := dk_132 5 1 (dk_at dksX9_most_3 7 rfl rfl)
theorem dX9_most_81 : decode cX9_most 81 = .ok (.goto (-35), 3) := dk_167 255 221 (dk_at dksX9_most_3 10 rfl rfl)
theorem dX9_most_84 : decode cX9_most 84 = .ok (.iload 4, 2) := dk_21 4 (dk_at dksX9_most_3 13 rfl rfl)
theorem dX9_most_86 : decode cX9_most 86 = .ok (.iload_n 2, 1) := dk_28 (dk_at dksX9_most_3 15 rfl rfl)
theorem dX9_most_87 : decode cX9_most 87 = .ok (.if_icmp .le 8, 3) := dk_164 0 8 (dk_at dksX9_most_3 16 rfl rfl)
theorem dX9_most_90 : decode cX9_most 90 = .ok (.iload 4, 2) := dk_21 4 (dk_at dksX9_most_3 19 rfl rfl)
theorem dX9_most_92 : decode cX9_most 92 = .ok (.goto 4, 3) := dk_167 0 4 (dk_at dksX9_most_3 21 rfl rfl)
theorem dX9_most_95 : decode cX9_most 95 = .ok (.iload_n 2, 1) := dk_28 (dk_at dksX9_most_4 0 rfl rfl)
theorem dX9_most_96 : decode cX9_most 96 = .ok (.istore_n 2, 1) := dk_61 (dk_at dksX9_most_4 1 rfl rfl)
theorem dX9_most_97 : decode cX9_most 97 = .ok (.iinc 3 1, 3) := dk_132 3 1 (dk_at dksX9_most_4 2 rfl rfl)
theorem dX9_most_100 : decode cX9_most 100 = .ok (.goto (-78), 3) := dk_167 255 178 (dk_at dksX9_most_4 5 rfl rfl)
theorem dX9_most_103 : decode cX9_most 103 = .ok (.aload_n 0, 1) := dk_42 (dk_at dksX9_most_4 8 rfl rfl)
theorem dX9_most_104 : decode cX9_most 104 = .ok (.iload_n 2, 1) := dk_28 (dk_at dksX9_most_4 9 rfl rfl)
theorem dX9_most_105 : decode cX9_most 105 = .ok (.invokevirtual 107, 3) := dk_182 0 107 (dk_at dksX9_most_4 10 rfl rfl)
theorem dX9_most_108 : decode cX9_most 108 = .ok (.ireturn, 1) := dk_172 (dk_at dksX9_most_4 13 rfl rfl)
abbrev cX9_lost : ByteArray := prog_21_method_112_code
def yX9_lost : MethodName := ⟨RX9, "lost", "()I"⟩
def dkwX9_lost_2 : List UInt8 := [167, 255, 223, 42, 27, 182, 0, 107, 172]
abbrev dktX9_lost_2 : List UInt8 := dkwX9_lost_2 ++ []
def dkwX9_lost_1 : List UInt8 := [180, 0, 75, 42, 180, 0, 72, 28, 46, 51, 153, 0, 7, 3, 167, 0, 4, 4, 96, 60, 132, 2, 1]
abbrev dktX9_lost_1 : List UInt8 := dkwX9_lost_1 ++ dktX9_lost_2
def dkwX9_lost_0 : List UInt8 := [42, 182, 1, 129, 42, 182, 1, 150, 3, 60, 3, 61, 28, 42, 180, 1, 117, 162, 0, 31, 27, 42]
abbrev dktX9_lost_0 : List UInt8 := dkwX9_lost_0 ++ dktX9_lost_1
theorem dksX9_lost_0 : cX9_lost.data.toList.drop 0 = dktX9_lost_0 := by decide +kernel
theorem dksX9_lost_1 : cX9_lost.data.toList.drop 22 = dktX9_lost_1 := dk_seg dksX9_lost_0 22 rfl rfl
theorem dksX9_lost_2 : cX9_lost.data.toList.drop 45 = dktX9_lost_2 := dk_seg dksX9_lost_1 23 rfl rfl
theorem dX9_lost_0 : decode cX9_lost 0 = .ok (.aload_n 0, 1) := dk_42 (dk_at dksX9_lost_0 0 rfl rfl)
theorem dX9_lost_1 : decode cX9_lost 1 = .ok (.invokevirtual 385, 3) := dk_182 1 129 (dk_at dksX9_lost_0 1 rfl rfl)
theorem dX9_lost_4 : decode cX9_lost 4 = .ok (.aload_n 0, 1) := dk_42 (dk_at dksX9_lost_0 4 rfl rfl)
theorem dX9_lost_5 : decode cX9_lost 5 = .ok (.invokevirtual 406, 3) := dk_182 1 150 (dk_at dksX9_lost_0 5 rfl rfl)
theorem dX9_lost_8 : decode cX9_lost 8 = .ok (.iconst 0, 1) := dk_3 (dk_at dksX9_lost_0 8 rfl rfl)
theorem dX9_lost_9 : decode cX9_lost 9 = .ok (.istore_n 1, 1) := dk_60 (dk_at dksX9_lost_0 9 rfl rfl)
theorem dX9_lost_10 : decode cX9_lost 10 = .ok (.iconst 0, 1) := dk_3 (dk_at dksX9_lost_0 10 rfl rfl)
theorem dX9_lost_11 : decode cX9_lost 11 = .ok (.istore_n 2, 1) := dk_61 (dk_at dksX9_lost_0 11 rfl rfl)
theorem dX9_lost_12 : decode cX9_lost 12 = .ok (.iload_n 2, 1) := dk_28 (dk_at dksX9_lost_0 12 rfl rfl)
theorem dX9_lost_13 : decode cX9_lost 13 = .ok (.aload_n 0, 1) := dk_42 (dk_at dksX9_lost_0 13 rfl rfl)
theorem dX9_lost_14 : decode cX9_lost 14 = .ok (.getfield 373, 3) := dk_180 1 117 (dk_at dksX9_lost_0 14 rfl rfl)
theorem dX9_lost_17 : decode cX9_lost 17 = .ok (.if_icmp .ge 31, 3) := dk_162 0 31 (dk_at dksX9_lost_0 17 rfl rfl)
theorem dX9_lost_20 : decode cX9_lost 20 = .ok (.iload_n 1, 1) := dk_27 (dk_at dksX9_lost_0 20 rfl rfl)
theorem dX9_lost_21 : decode cX9_lost 21 = .ok (.aload_n 0, 1) := dk_42 (dk_at dksX9_lost_0 21 rfl rfl)
theorem dX9_lost_22 : decode cX9_lost 22 = .ok (.getfield 75, 3) := dk_180 0 75 (dk_at dksX9_lost_1 0 rfl rfl)
theorem dX9_lost_25 : decode cX9_lost 25 = .ok (.aload_n 0, 1) := dk_42 (dk_at dksX9_lost_1 3 rfl rfl)
theorem dX9_lost_26 : decode cX9_lost 26 = .ok (.getfield 72, 3) := dk_180 0 72 (dk_at dksX9_lost_1 4 rfl rfl)
theorem dX9_lost_29 : decode cX9_lost 29 = .ok (.iload_n 2, 1) := dk_28 (dk_at dksX9_lost_1 7 rfl rfl)
theorem dX9_lost_30 : decode cX9_lost 30 = .ok (.iaload, 1) := dk_46 (dk_at dksX9_lost_1 8 rfl rfl)
theorem dX9_lost_31 : decode cX9_lost 31 = .ok (.baload, 1) := dk_51 (dk_at dksX9_lost_1 9 rfl rfl)
theorem dX9_lost_32 : decode cX9_lost 32 = .ok (.ifCond .eq 7, 3) := dk_153 0 7 (dk_at dksX9_lost_1 10 rfl rfl)
theorem dX9_lost_35 : decode cX9_lost 35 = .ok (.iconst 0, 1) := dk_3 (dk_at dksX9_lost_1 13 rfl rfl)
theorem dX9_lost_36 : decode cX9_lost 36 = .ok (.goto 4, 3) := dk_167 0 4 (dk_at dksX9_lost_1 14 rfl rfl)
theorem dX9_lost_39 : decode cX9_lost 39 = .ok (.iconst 1, 1) := dk_4 (dk_at dksX9_lost_1 17 rfl rfl)
theorem dX9_lost_40 : decode cX9_lost 40 = .ok (.iadd, 1) := dk_96 (dk_at dksX9_lost_1 18 rfl rfl)
theorem dX9_lost_41 : decode cX9_lost 41 = .ok (.istore_n 1, 1) := dk_60 (dk_at dksX9_lost_1 19 rfl rfl)
theorem dX9_lost_42 : decode cX9_lost 42 = .ok (.iinc 2 1, 3) := dk_132 2 1 (dk_at dksX9_lost_1 20 rfl rfl)
theorem dX9_lost_45 : decode cX9_lost 45 = .ok (.goto (-33), 3) := dk_167 255 223 (dk_at dksX9_lost_2 0 rfl rfl)
theorem dX9_lost_48 : decode cX9_lost 48 = .ok (.aload_n 0, 1) := dk_42 (dk_at dksX9_lost_2 3 rfl rfl)
theorem dX9_lost_49 : decode cX9_lost 49 = .ok (.iload_n 1, 1) := dk_27 (dk_at dksX9_lost_2 4 rfl rfl)
theorem dX9_lost_50 : decode cX9_lost 50 = .ok (.invokevirtual 107, 3) := dk_182 0 107 (dk_at dksX9_lost_2 5 rfl rfl)
theorem dX9_lost_53 : decode cX9_lost 53 = .ok (.ireturn, 1) := dk_172 (dk_at dksX9_lost_2 8 rfl rfl)
abbrev cX9_keepsGood : ByteArray := prog_21_method_111_code
def yX9_keepsGood : MethodName := ⟨RX9, "keepsGood", "()V"⟩
def dkwX9_keepsGood_7 : List UInt8 := [167, 255, 130, 177]
abbrev dktX9_keepsGood_7 : List UInt8 := dkwX9_keepsGood_7 ++ []
def dkwX9_keepsGood_6 : List UInt8 := [28, 46, 29, 84, 27, 154, 0, 7, 29, 153, 0, 7, 4, 167, 0, 4, 3, 60, 132, 2, 255, 167, 255, 146]
abbrev dktX9_keepsGood_6 : List UInt8 := dkwX9_keepsGood_6 ++ dktX9_keepsGood_7
def dkwX9_keepsGood_5 : List UInt8 := [51, 153, 0, 7, 4, 167, 0, 4, 3, 62, 132, 4, 1, 167, 255, 204, 42, 180, 0, 75, 42, 180, 0, 72]
abbrev dktX9_keepsGood_5 : List UInt8 := dkwX9_keepsGood_5 ++ dktX9_keepsGood_6
def dkwX9_keepsGood_4 : List UInt8 := [180, 0, 72, 28, 46, 21, 4, 182, 1, 123, 54, 5, 21, 5, 2, 159, 0, 17, 42, 180, 0, 75, 21, 5]
abbrev dktX9_keepsGood_4 : List UInt8 := dkwX9_keepsGood_4 ++ dktX9_keepsGood_5
def dkwX9_keepsGood_3 : List UInt8 := [167, 0, 89, 3, 62, 3, 54, 4, 21, 4, 42, 180, 1, 98, 162, 0, 49, 29, 154, 0, 45, 42, 42]
abbrev dktX9_keepsGood_3 : List UInt8 := dkwX9_keepsGood_3 ++ dktX9_keepsGood_4
def dkwX9_keepsGood_2 : List UInt8 := [180, 1, 117, 4, 100, 61, 28, 155, 0, 112, 42, 180, 0, 75, 42, 180, 0, 72, 28, 46, 51, 153, 0, 6]
abbrev dktX9_keepsGood_2 : List UInt8 := dkwX9_keepsGood_2 ++ dktX9_keepsGood_3
def dkwX9_keepsGood_1 : List UInt8 := [180, 0, 72, 27, 46, 182, 1, 126, 84, 132, 1, 1, 167, 255, 224, 4, 60, 27, 153, 0, 128, 3, 60, 42]
abbrev dktX9_keepsGood_1 : List UInt8 := dkwX9_keepsGood_1 ++ dktX9_keepsGood_2
def dkwX9_keepsGood_0 : List UInt8 := [3, 60, 27, 42, 180, 1, 117, 162, 0, 30, 42, 180, 0, 75, 42, 180, 0, 72, 27, 46, 42, 42]
abbrev dktX9_keepsGood_0 : List UInt8 := dkwX9_keepsGood_0 ++ dktX9_keepsGood_1
theorem dksX9_keepsGood_0 : cX9_keepsGood.data.toList.drop 0 = dktX9_keepsGood_0 := by decide +kernel
theorem dksX9_keepsGood_1 : cX9_keepsGood.data.toList.drop 22 = dktX9_keepsGood_1 := dk_seg dksX9_keepsGood_0 22 rfl rfl
theorem dksX9_keepsGood_2 : cX9_keepsGood.data.toList.drop 46 = dktX9_keepsGood_2 := dk_seg dksX9_keepsGood_1 24 rfl rfl
theorem dksX9_keepsGood_3 : cX9_keepsGood.data.toList.drop 70 = dktX9_keepsGood_3 := dk_seg dksX9_keepsGood_2 24 rfl rfl
theorem dksX9_keepsGood_4 : cX9_keepsGood.data.toList.drop 93 = dktX9_keepsGood_4 := dk_seg dksX9_keepsGood_3 23 rfl rfl
theorem dksX9_keepsGood_5 : cX9_keepsGood.data.toList.drop 117 = dktX9_keepsGood_5 := dk_seg dksX9_keepsGood_4 24 rfl rfl
theorem dksX9_keepsGood_6 : cX9_keepsGood.data.toList.drop 141 = dktX9_keepsGood_6 := dk_seg dksX9_keepsGood_5 24 rfl rfl
theorem dksX9_keepsGood_7 : cX9_keepsGood.data.toList.drop 165 = dktX9_keepsGood_7 := dk_seg dksX9_keepsGood_6 24 rfl rfl
theorem dX9_keepsGood_0 : decode cX9_keepsGood 0 = .ok (.iconst 0, 1) := dk_3 (dk_at dksX9_keepsGood_0 0 rfl rfl)
theorem dX9_keepsGood_1 : decode cX9_keepsGood 1 = .ok (.istore_n 1, 1) := dk_60 (dk_at dksX9_keepsGood_0 1 rfl rfl)
theorem dX9_keepsGood_2 : decode cX9_keepsGood 2 = .ok (.iload_n 1, 1) := dk_27 (dk_at dksX9_keepsGood_0 2 rfl rfl)
theorem dX9_keepsGood_3 : decode cX9_keepsGood 3 = .ok (.aload_n 0, 1) := dk_42 (dk_at dksX9_keepsGood_0 3 rfl rfl)
theorem dX9_keepsGood_4 : decode cX9_keepsGood 4 = .ok (.getfield 373, 3) := dk_180 1 117 (dk_at dksX9_keepsGood_0 4 rfl rfl)
theorem dX9_keepsGood_7 : decode cX9_keepsGood 7 = .ok (.if_icmp .ge 30, 3) := dk_162 0 30 (dk_at dksX9_keepsGood_0 7 rfl rfl)
theorem dX9_keepsGood_10 : decode cX9_keepsGood 10 = .ok (.aload_n 0, 1) := dk_42 (dk_at dksX9_keepsGood_0 10 rfl rfl)
theorem dX9_keepsGood_11 : decode cX9_keepsGood 11 = .ok (.getfield 75, 3) := dk_180 0 75 (dk_at dksX9_keepsGood_0 11 rfl rfl)
theorem dX9_keepsGood_14 : decode cX9_keepsGood 14 = .ok (.aload_n 0, 1) := dk_42 (dk_at dksX9_keepsGood_0 14 rfl rfl)
theorem dX9_keepsGood_15 : decode cX9_keepsGood 15 = .ok (.getfield 72, 3) := dk_180 0 72 (dk_at dksX9_keepsGood_0 15 rfl rfl)
theorem dX9_keepsGood_18 : decode cX9_keepsGood 18 = .ok (.iload_n 1, 1) := dk_27 (dk_at dksX9_keepsGood_0 18 rfl rfl)
theorem dX9_keepsGood_19 : decode cX9_keepsGood 19 = .ok (.iaload, 1) := dk_46 (dk_at dksX9_keepsGood_0 19 rfl rfl)
theorem dX9_keepsGood_20 : decode cX9_keepsGood 20 = .ok (.aload_n 0, 1) := dk_42 (dk_at dksX9_keepsGood_0 20 rfl rfl)
theorem dX9_keepsGood_21 : decode cX9_keepsGood 21 = .ok (.aload_n 0, 1) := dk_42 (dk_at dksX9_keepsGood_0 21 rfl rfl)
theorem dX9_keepsGood_22 : decode cX9_keepsGood 22 = .ok (.getfield 72, 3) := dk_180 0 72 (dk_at dksX9_keepsGood_1 0 rfl rfl)
theorem dX9_keepsGood_25 : decode cX9_keepsGood 25 = .ok (.iload_n 1, 1) := dk_27 (dk_at dksX9_keepsGood_1 3 rfl rfl)
theorem dX9_keepsGood_26 : decode cX9_keepsGood 26 = .ok (.iaload, 1) := dk_46 (dk_at dksX9_keepsGood_1 4 rfl rfl)
theorem dX9_keepsGood_27 : decode cX9_keepsGood 27 = .ok (.invokevirtual 382, 3) := dk_182 1 126 (dk_at dksX9_keepsGood_1 5 rfl rfl)
theorem dX9_keepsGood_30 : decode cX9_keepsGood 30 = .ok (.bastore, 1) := dk_84 (dk_at dksX9_keepsGood_1 8 rfl rfl)
theorem dX9_keepsGood_31 : decode cX9_keepsGood 31 = .ok (.iinc 1 1, 3) := dk_132 1 1 (dk_at dksX9_keepsGood_1 9 rfl rfl)
theorem dX9_keepsGood_34 : decode cX9_keepsGood 34 = .ok (.goto (-32), 3) := dk_167 255 224 (dk_at dksX9_keepsGood_1 12 rfl rfl)
theorem dX9_keepsGood_37 : decode cX9_keepsGood 37 = .ok (.iconst 1, 1) := dk_4 (dk_at dksX9_keepsGood_1 15 rfl rfl)
theorem dX9_keepsGood_38 : decode cX9_keepsGood 38 = .ok (.istore_n 1, 1) := dk_60 (dk_at dksX9_keepsGood_1 16 rfl rfl)
theorem dX9_keepsGood_39 : decode cX9_keepsGood 39 = .ok (.iload_n 1, 1) := dk_27 (dk_at dksX9_keepsGood_1 17 rfl rfl)
theorem dX9_keepsGood_40 : decode cX9_keepsGood 40 = .ok (.ifCond .eq 128, 3) := dk_153 0 128 (dk_at dksX9_keepsGood_1 18 rfl rfl)
theorem dX9_keepsGood_43 : decode cX9_keepsGood 43 = .ok (.iconst 0, 1) := dk_3 (dk_at dksX9_keepsGood_1 21 rfl rfl)
theorem dX9_keepsGood_44 : decode cX9_keepsGood 44 = .ok (.istore_n 1, 1) := dk_60 (dk_at dksX9_keepsGood_1 22 rfl rfl)
theorem dX9_keepsGood_45 : decode cX9_keepsGood 45 = .ok (.aload_n 0, 1) := dk_42 (dk_at dksX9_keepsGood_1 23 rfl rfl)
theorem dX9_keepsGood_46 : decode cX9_keepsGood 46 = .ok (.getfield 373, 3) := dk_180 1 117 (dk_at dksX9_keepsGood_2 0 rfl rfl)
theorem dX9_keepsGood_49 : decode cX9_keepsGood 49 = .ok (.iconst 1, 1) := dk_4 (dk_at dksX9_keepsGood_2 3 rfl rfl)
theorem dX9_keepsGood_50 : decode cX9_keepsGood 50 = .ok (.isub, 1) := dk_100 (dk_at dksX9_keepsGood_2 4 rfl rfl)
theorem dX9_keepsGood_51 : decode cX9_keepsGood 51 = .ok (.istore_n 2, 1) := dk_61 (dk_at dksX9_keepsGood_2 5 rfl rfl)
theorem dX9_keepsGood_52 : decode cX9_keepsGood 52 = .ok (.iload_n 2, 1) := dk_28 (dk_at dksX9_keepsGood_2 6 rfl rfl)
theorem dX9_keepsGood_53 : decode cX9_keepsGood 53 = .ok (.ifCond .lt 112, 3) := dk_155 0 112 (dk_at dksX9_keepsGood_2 7 rfl rfl)
theorem dX9_keepsGood_56 : decode cX9_keepsGood 56 = .ok (.aload_n 0, 1) := dk_42 (dk_at dksX9_keepsGood_2 10 rfl rfl)
theorem dX9_keepsGood_57 : decode cX9_keepsGood 57 = .ok (.getfield 75, 3) := dk_180 0 75 (dk_at dksX9_keepsGood_2 11 rfl rfl)
theorem dX9_keepsGood_60 : decode cX9_keepsGood 60 = .ok (.aload_n 0, 1) := dk_42 (dk_at dksX9_keepsGood_2 14 rfl rfl)
theorem dX9_keepsGood_61 : decode cX9_keepsGood 61 = .ok (.getfield 72, 3) := dk_180 0 72 (dk_at dksX9_keepsGood_2 15 rfl rfl)
theorem dX9_keepsGood_64 : decode cX9_keepsGood 64 = .ok (.iload_n 2, 1) := dk_28 (dk_at dksX9_keepsGood_2 18 rfl rfl)
theorem dX9_keepsGood_65 : decode cX9_keepsGood 65 = .ok (.iaload, 1) := dk_46 (dk_at dksX9_keepsGood_2 19 rfl rfl)
theorem dX9_keepsGood_66 : decode cX9_keepsGood 66 = .ok (.baload, 1) := dk_51 (dk_at dksX9_keepsGood_2 20 rfl rfl)
theorem dX9_keepsGood_67 : decode cX9_keepsGood 67 = .ok (.ifCond .eq 6, 3) := dk_153 0 6 (dk_at dksX9_keepsGood_2 21 rfl rfl)
theorem dX9_keepsGood_70 : decode cX9_keepsGood 70 = .ok (.goto 89, 3) := dk_167 0 89 (dk_at dksX9_keepsGood_3 0 rfl rfl)
theorem dX9_keepsGood_73 : decode cX9_keepsGood 73 = .ok (.iconst 0, 1) := dk_3 (dk_at dksX9_keepsGood_3 3 rfl rfl)
theorem dX9_keepsGood_74 : decode cX9_keepsGood 74 = .ok (.istore_n 3, 1) := dk_62 (dk_at dksX9_keepsGood_3 4 rfl rfl)
theorem dX9_keepsGood_75 : decode cX9_keepsGood 75 = .ok (.iconst 0, 1) := dk_3 (dk_at dksX9_keepsGood_3 5 rfl rfl)
theorem dX9_keepsGood_76 : decode cX9_keepsGood 76 = .ok (.istore 4, 2) := dk_54 4 (dk_at dksX9_keepsGood_3 6 rfl rfl)
theorem dX9_keepsGood_78 : decode cX9_keepsGood 78 = .ok (.iload 4, 2) := dk_21 4 (dk_at dksX9_keepsGood_3 8 rfl rfl)
theorem dX9_keepsGood_80 : decode cX9_keepsGood 80 = .ok (.aload_n 0, 1) := dk_42 (dk_at dksX9_keepsGood_3 10 rfl rfl)
theorem dX9_keepsGood_81 : decode cX9_keepsGood 81 = .ok (.getfield 354, 3) := dk_180 1 98 (dk_at dksX9_keepsGood_3 11 rfl rfl)
theorem dX9_keepsGood_84 : decode cX9_keepsGood 84 = .ok (.if_icmp .ge 49, 3) := dk_162 0 49 (dk_at dksX9_keepsGood_3 14 rfl rfl)
theorem dX9_keepsGood_87 : decode cX9_keepsGood 87 = .ok (.iload_n 3, 1) := dk_29 (dk_at dksX9_keepsGood_3 17 rfl rfl)
theorem dX9_keepsGood_88 : decode cX9_keepsGood 88 = .ok (.ifCond .ne 45, 3) := dk_154 0 45 (dk_at dksX9_keepsGood_3 18 rfl rfl)
theorem dX9_keepsGood_91 : decode cX9_keepsGood 91 = .ok (.aload_n 0, 1) := dk_42 (dk_at dksX9_keepsGood_3 21 rfl rfl)
theorem dX9_keepsGood_92 : decode cX9_keepsGood 92 = .ok (.aload_n 0, 1) := dk_42 (dk_at dksX9_keepsGood_3 22 rfl rfl)
theorem dX9_keepsGood_93 : decode cX9_keepsGood 93 = .ok (.getfield 72, 3) := dk_180 0 72 (dk_at dksX9_keepsGood_4 0 rfl rfl)
theorem dX9_keepsGood_96 : decode cX9_keepsGood 96 = .ok (.iload_n 2, 1) := dk_28 (dk_at dksX9_keepsGood_4 3 rfl rfl)
theorem dX9_keepsGood_97 : decode cX9_keepsGood 97 = .ok (.iaload, 1) := dk_46 (dk_at dksX9_keepsGood_4 4 rfl rfl)
theorem dX9_keepsGood_98 : decode cX9_keepsGood 98 = .ok (.iload 4, 2) := dk_21 4 (dk_at dksX9_keepsGood_4 5 rfl rfl)
theorem dX9_keepsGood_100 : decode cX9_keepsGood 100 = .ok (.invokevirtual 379, 3) := dk_182 1 123 (dk_at dksX9_keepsGood_4 7 rfl rfl)
theorem dX9_keepsGood_103 : decode cX9_keepsGood 103 = .ok (.istore 5, 2) := dk_54 5 (dk_at dksX9_keepsGood_4 10 rfl rfl)
theorem dX9_keepsGood_105 : decode cX9_keepsGood 105 = .ok (.iload 5, 2) := dk_21 5 (dk_at dksX9_keepsGood_4 12 rfl rfl)
theorem dX9_keepsGood_107 : decode cX9_keepsGood 107 = .ok (.iconst (-1), 1) := dk_2 (dk_at dksX9_keepsGood_4 14 rfl rfl)
theorem dX9_keepsGood_108 : decode cX9_keepsGood 108 = .ok (.if_icmp .eq 17, 3) := dk_159 0 17 (dk_at dksX9_keepsGood_4 15 rfl rfl)
theorem dX9_keepsGood_111 : decode cX9_keepsGood 111 = .ok (.aload_n 0, 1) := dk_42 (dk_at dksX9_keepsGood_4 18 rfl rfl)
theorem dX9_keepsGood_112 : decode cX9_keepsGood 112 = .ok (.getfield 75, 3) := dk_180 0 75 (dk_at dksX9_keepsGood_4 19 rfl rfl)
theorem dX9_keepsGood_115 : decode cX9_keepsGood 115 = .ok (.iload 5, 2) := dk_21 5 (dk_at dksX9_keepsGood_4 22 rfl rfl)
theorem dX9_keepsGood_117 : decode cX9_keepsGood 117 = .ok (.baload, 1) := dk_51 (dk_at dksX9_keepsGood_5 0 rfl rfl)
theorem dX9_keepsGood_118 : decode cX9_keepsGood 118 = .ok (.ifCond .eq 7, 3) := dk_153 0 7 (dk_at dksX9_keepsGood_5 1 rfl rfl)
theorem dX9_keepsGood_121 : decode cX9_keepsGood 121 = .ok (.iconst 1, 1) := dk_4 (dk_at dksX9_keepsGood_5 4 rfl rfl)
theorem dX9_keepsGood_122 : decode cX9_keepsGood 122 = .ok (.goto 4, 3) := dk_167 0 4 (dk_at dksX9_keepsGood_5 5 rfl rfl)
theorem dX9_keepsGood_125 : decode cX9_keepsGood 125 = .ok (.iconst 0, 1) := dk_3 (dk_at dksX9_keepsGood_5 8 rfl rfl)
theorem dX9_keepsGood_126 : decode cX9_keepsGood 126 = .ok (.istore_n 3, 1) := dk_62 (dk_at dksX9_keepsGood_5 9 rfl rfl)
theorem dX9_keepsGood_127 : decode cX9_keepsGood 127 = .ok (.iinc 4 1, 3) := dk_132 4 1 (dk_at dksX9_keepsGood_5 10 rfl rfl)
theorem dX9_keepsGood_130 : decode cX9_keepsGood 130 = .ok (.goto (-52), 3) := dk_167 255 204 (dk_at dksX9_keepsGood_5 13 rfl rfl)
theorem dX9_keepsGood_133 : decode cX9_keepsGood 133 = .ok (.aload_n 0, 1) := dk_42 (dk_at dksX9_keepsGood_5 16 rfl rfl)
theorem dX9_keepsGood_134 : decode cX9_keepsGood 134 = .ok (.getfield 75, 3) := dk_180 0 75 (dk_at dksX9_keepsGood_5 17 rfl rfl)
theorem dX9_keepsGood_137 : decode cX9_keepsGood 137 = .ok (.aload_n 0, 1) := dk_42 (dk_at dksX9_keepsGood_5 20 rfl rfl)
theorem dX9_keepsGood_138 : decode cX9_keepsGood 138 = .ok (.getfield 72, 3) := dk_180 0 72 (dk_at dksX9_keepsGood_5 21 rfl rfl)
theorem dX9_keepsGood_141 : decode cX9_keepsGood 141 = .ok (.iload_n 2, 1) := dk_28 (dk_at dksX9_keepsGood_6 0 rfl rfl)
theorem dX9_keepsGood_142 : decode cX9_keepsGood 142 = .ok (.iaload, 1) := dk_46 (dk_at dksX9_keepsGood_6 1 rfl rfl)
theorem dX9_keepsGood_143 : decode cX9_keepsGood 143 = .ok (.iload_n 3, 1) := dk_29 (dk_at dksX9_keepsGood_6 2 rfl rfl)
theorem dX9_keepsGood_144 : decode cX9_keepsGood 144 = .ok (.bastore, 1) := dk_84 (dk_at dksX9_keepsGood_6 3 rfl rfl)
theorem dX9_keepsGood_145 : decode cX9_keepsGood 145 = .ok (.iload_n 1, 1) := dk_27 (dk_at dksX9_keepsGood_6 4 rfl rfl)
theorem dX9_keepsGood_146 : decode cX9_keepsGood 146 = .ok (.ifCond .ne 7, 3) := dk_154 0 7 (dk_at dksX9_keepsGood_6 5 rfl rfl)
theorem dX9_keepsGood_149 : decode cX9_keepsGood 149 = .ok (.iload_n 3, 1) := dk_29 (dk_at dksX9_keepsGood_6 8 rfl rfl)
theorem dX9_keepsGood_150 : decode cX9_keepsGood 150 = .ok (.ifCond .eq 7, 3) := dk_153 0 7 (dk_at dksX9_keepsGood_6 9 rfl rfl)
theorem dX9_keepsGood_153 : decode cX9_keepsGood 153 = .ok (.iconst 1, 1) := dk_4 (dk_at dksX9_keepsGood_6 12 rfl rfl)
theorem dX9_keepsGood_154 : decode cX9_keepsGood 154 = .ok (.goto 4, 3) := dk_167 0 4 (dk_at dksX9_keepsGood_6 13 rfl rfl)
theorem dX9_keepsGood_157 : decode cX9_keepsGood 157 = .ok (.iconst 0, 1) := dk_3 (dk_at dksX9_keepsGood_6 16 rfl rfl)
theorem dX9_keepsGood_158 : decode cX9_keepsGood 158 = .ok (.istore_n 1, 1) := dk_60 (dk_at dksX9_keepsGood_6 17 rfl rfl)
theorem dX9_keepsGood_159 : decode cX9_keepsGood 159 = .ok (.iinc 2 (-1), 3) := dk_132 2 255 (dk_at dksX9_keepsGood_6 18 rfl rfl)
theorem dX9_keepsGood_162 : decode cX9_keepsGood 162 = .ok (.goto (-110), 3) := dk_167 255 146 (dk_at dksX9_keepsGood_6 21 rfl rfl)
theorem dX9_keepsGood_165 : decode cX9_keepsGood 165 = .ok (.goto (-126), 3) := dk_167 255 130 (dk_at dksX9_keepsGood_7 0 rfl rfl)
theorem dX9_keepsGood_168 : decode cX9_keepsGood 168 = .ok (.return_, 1) := dk_177 (dk_at dksX9_keepsGood_7 3 rfl rfl)
abbrev cX9_safe : ByteArray := prog_21_method_113_code
def yX9_safe : MethodName := ⟨RX9, "safe", "()I"⟩
def dkwX9_safe_2 : List UInt8 := [167, 0, 4, 3, 96, 60, 132, 2, 1, 167, 255, 213, 42, 27, 182, 0, 107, 172]
abbrev dktX9_safe_2 : List UInt8 := dkwX9_safe_2 ++ []
def dkwX9_safe_1 : List UInt8 := [180, 1, 114, 28, 182, 1, 123, 62, 27, 29, 2, 159, 0, 16, 42, 180, 0, 75, 29, 51, 153, 0, 7, 4]
abbrev dktX9_safe_1 : List UInt8 := dkwX9_safe_1 ++ dktX9_safe_2
def dkwX9_safe_0 : List UInt8 := [42, 182, 1, 129, 42, 182, 1, 150, 3, 60, 3, 61, 28, 42, 180, 1, 98, 162, 0, 41, 42, 42]
abbrev dktX9_safe_0 : List UInt8 := dkwX9_safe_0 ++ dktX9_safe_1
theorem dksX9_safe_0 : cX9_safe.data.toList.drop 0 = dktX9_safe_0 := by decide +kernel
theorem dksX9_safe_1 : cX9_safe.data.toList.drop 22 = dktX9_safe_1 := dk_seg dksX9_safe_0 22 rfl rfl
theorem dksX9_safe_2 : cX9_safe.data.toList.drop 46 = dktX9_safe_2 := dk_seg dksX9_safe_1 24 rfl rfl
theorem dX9_safe_0 : decode cX9_safe 0 = .ok (.aload_n 0, 1) := dk_42 (dk_at dksX9_safe_0 0 rfl rfl)
theorem dX9_safe_1 : decode cX9_safe 1 = .ok (.invokevirtual 385, 3) := dk_182 1 129 (dk_at dksX9_safe_0 1 rfl rfl)
theorem dX9_safe_4 : decode cX9_safe 4 = .ok (.aload_n 0, 1) := dk_42 (dk_at dksX9_safe_0 4 rfl rfl)
theorem dX9_safe_5 : decode cX9_safe 5 = .ok (.invokevirtual 406, 3) := dk_182 1 150 (dk_at dksX9_safe_0 5 rfl rfl)
theorem dX9_safe_8 : decode cX9_safe 8 = .ok (.iconst 0, 1) := dk_3 (dk_at dksX9_safe_0 8 rfl rfl)
theorem dX9_safe_9 : decode cX9_safe 9 = .ok (.istore_n 1, 1) := dk_60 (dk_at dksX9_safe_0 9 rfl rfl)
theorem dX9_safe_10 : decode cX9_safe 10 = .ok (.iconst 0, 1) := dk_3 (dk_at dksX9_safe_0 10 rfl rfl)
theorem dX9_safe_11 : decode cX9_safe 11 = .ok (.istore_n 2, 1) := dk_61 (dk_at dksX9_safe_0 11 rfl rfl)
theorem dX9_safe_12 : decode cX9_safe 12 = .ok (.iload_n 2, 1) := dk_28 (dk_at dksX9_safe_0 12 rfl rfl)
theorem dX9_safe_13 : decode cX9_safe 13 = .ok (.aload_n 0, 1) := dk_42 (dk_at dksX9_safe_0 13 rfl rfl)
theorem dX9_safe_14 : decode cX9_safe 14 = .ok (.getfield 354, 3) := dk_180 1 98 (dk_at dksX9_safe_0 14 rfl rfl)
theorem dX9_safe_17 : decode cX9_safe 17 = .ok (.if_icmp .ge 41, 3) := dk_162 0 41 (dk_at dksX9_safe_0 17 rfl rfl)
theorem dX9_safe_20 : decode cX9_safe 20 = .ok (.aload_n 0, 1) := dk_42 (dk_at dksX9_safe_0 20 rfl rfl)
theorem dX9_safe_21 : decode cX9_safe 21 = .ok (.aload_n 0, 1) := dk_42 (dk_at dksX9_safe_0 21 rfl rfl)
theorem dX9_safe_22 : decode cX9_safe 22 = .ok (.getfield 370, 3) := dk_180 1 114 (dk_at dksX9_safe_1 0 rfl rfl)
theorem dX9_safe_25 : decode cX9_safe 25 = .ok (.iload_n 2, 1) := dk_28 (dk_at dksX9_safe_1 3 rfl rfl)
theorem dX9_safe_26 : decode cX9_safe 26 = .ok (.invokevirtual 379, 3) := dk_182 1 123 (dk_at dksX9_safe_1 4 rfl rfl)
theorem dX9_safe_29 : decode cX9_safe 29 = .ok (.istore_n 3, 1) := dk_62 (dk_at dksX9_safe_1 7 rfl rfl)
theorem dX9_safe_30 : decode cX9_safe 30 = .ok (.iload_n 1, 1) := dk_27 (dk_at dksX9_safe_1 8 rfl rfl)
theorem dX9_safe_31 : decode cX9_safe 31 = .ok (.iload_n 3, 1) := dk_29 (dk_at dksX9_safe_1 9 rfl rfl)
theorem dX9_safe_32 : decode cX9_safe 32 = .ok (.iconst (-1), 1) := dk_2 (dk_at dksX9_safe_1 10 rfl rfl)
theorem dX9_safe_33 : decode cX9_safe 33 = .ok (.if_icmp .eq 16, 3) := dk_159 0 16 (dk_at dksX9_safe_1 11 rfl rfl)
theorem dX9_safe_36 : decode cX9_safe 36 = .ok (.aload_n 0, 1) := dk_42 (dk_at dksX9_safe_1 14 rfl rfl)
theorem dX9_safe_37 : decode cX9_safe 37 = .ok (.getfield 75, 3) := dk_180 0 75 (dk_at dksX9_safe_1 15 rfl rfl)
theorem dX9_safe_40 : decode cX9_safe 40 = .ok (.iload_n 3, 1) := dk_29 (dk_at dksX9_safe_1 18 rfl rfl)
theorem dX9_safe_41 : decode cX9_safe 41 = .ok (.baload, 1) := dk_51 (dk_at dksX9_safe_1 19 rfl rfl)
theorem dX9_safe_42 : decode cX9_safe 42 = .ok (.ifCond .eq 7, 3) := dk_153 0 7 (dk_at dksX9_safe_1 20 rfl rfl)
theorem dX9_safe_45 : decode cX9_safe 45 = .ok (.iconst 1, 1) := dk_4 (dk_at dksX9_safe_1 23 rfl rfl)
theorem dX9_safe_46 : decode cX9_safe 46 = .ok (.goto 4, 3) := dk_167 0 4 (dk_at dksX9_safe_2 0 rfl rfl)
theorem dX9_safe_49 : decode cX9_safe 49 = .ok (.iconst 0, 1) := dk_3 (dk_at dksX9_safe_2 3 rfl rfl)
theorem dX9_safe_50 : decode cX9_safe 50 = .ok (.iadd, 1) := dk_96 (dk_at dksX9_safe_2 4 rfl rfl)
theorem dX9_safe_51 : decode cX9_safe 51 = .ok (.istore_n 1, 1) := dk_60 (dk_at dksX9_safe_2 5 rfl rfl)
theorem dX9_safe_52 : decode cX9_safe 52 = .ok (.iinc 2 1, 3) := dk_132 2 1 (dk_at dksX9_safe_2 6 rfl rfl)
theorem dX9_safe_55 : decode cX9_safe 55 = .ok (.goto (-43), 3) := dk_167 255 213 (dk_at dksX9_safe_2 9 rfl rfl)
theorem dX9_safe_58 : decode cX9_safe 58 = .ok (.aload_n 0, 1) := dk_42 (dk_at dksX9_safe_2 12 rfl rfl)
theorem dX9_safe_59 : decode cX9_safe 59 = .ok (.iload_n 1, 1) := dk_27 (dk_at dksX9_safe_2 13 rfl rfl)
theorem dX9_safe_60 : decode cX9_safe 60 = .ok (.invokevirtual 107, 3) := dk_182 0 107 (dk_at dksX9_safe_2 14 rfl rfl)
theorem dX9_safe_63 : decode cX9_safe 63 = .ok (.ireturn, 1) := dk_172 (dk_at dksX9_safe_2 17 rfl rfl)
abbrev cX9_free : ByteArray := prog_21_method_114_code
def yX9_free : MethodName := ⟨RX9, "free", "()I"⟩
def dkwX9_free_3 : List UInt8 := [3, 128, 60, 132, 3, 1, 167, 255, 208, 132, 2, 1, 167, 255, 182, 42, 27, 182, 0, 107, 172]
abbrev dktX9_free_3 : List UInt8 := dkwX9_free_3 ++ []
def dkwX9_free_2 : List UInt8 := [159, 0, 18, 42, 29, 5, 182, 1, 2, 42, 180, 0, 47, 29, 46, 160, 0, 9, 4, 29, 120, 167, 0, 4]
abbrev dktX9_free_2 : List UInt8 := dkwX9_free_2 ++ dktX9_free_3
def dkwX9_free_1 : List UInt8 := [182, 1, 105, 3, 62, 29, 42, 180, 0, 7, 5, 46, 162, 0, 44, 27, 42, 29, 5, 182, 1, 2, 2]
abbrev dktX9_free_1 : List UInt8 := dkwX9_free_1 ++ dktX9_free_2
def dkwX9_free_0 : List UInt8 := [42, 182, 1, 129, 3, 60, 3, 61, 28, 42, 180, 1, 117, 162, 0, 72, 42, 42, 180, 0, 72, 28, 46]
abbrev dktX9_free_0 : List UInt8 := dkwX9_free_0 ++ dktX9_free_1
theorem dksX9_free_0 : cX9_free.data.toList.drop 0 = dktX9_free_0 := by decide +kernel
theorem dksX9_free_1 : cX9_free.data.toList.drop 23 = dktX9_free_1 := dk_seg dksX9_free_0 23 rfl rfl
theorem dksX9_free_2 : cX9_free.data.toList.drop 46 = dktX9_free_2 := dk_seg dksX9_free_1 23 rfl rfl
theorem dksX9_free_3 : cX9_free.data.toList.drop 70 = dktX9_free_3 := dk_seg dksX9_free_2 24 rfl rfl
theorem dX9_free_0 : decode cX9_free 0 = .ok (.aload_n 0, 1) := dk_42 (dk_at dksX9_free_0 0 rfl rfl)
theorem dX9_free_1 : decode cX9_free 1 = .ok (.invokevirtual 385, 3) := dk_182 1 129 (dk_at dksX9_free_0 1 rfl rfl)
theorem dX9_free_4 : decode cX9_free 4 = .ok (.iconst 0, 1) := dk_3 (dk_at dksX9_free_0 4 rfl rfl)
theorem dX9_free_5 : decode cX9_free 5 = .ok (.istore_n 1, 1) := dk_60 (dk_at dksX9_free_0 5 rfl rfl)
theorem dX9_free_6 : decode cX9_free 6 = .ok (.iconst 0, 1) := dk_3 (dk_at dksX9_free_0 6 rfl rfl)
theorem dX9_free_7 : decode cX9_free 7 = .ok (.istore_n 2, 1) := dk_61 (dk_at dksX9_free_0 7 rfl rfl)
theorem dX9_free_8 : decode cX9_free 8 = .ok (.iload_n 2, 1) := dk_28 (dk_at dksX9_free_0 8 rfl rfl)
theorem dX9_free_9 : decode cX9_free 9 = .ok (.aload_n 0, 1) := dk_42 (dk_at dksX9_free_0 9 rfl rfl)
theorem dX9_free_10 : decode cX9_free 10 = .ok (.getfield 373, 3) := dk_180 1 117 (dk_at dksX9_free_0 10 rfl rfl)
theorem dX9_free_13 : decode cX9_free 13 = .ok (.if_icmp .ge 72, 3) := dk_162 0 72 (dk_at dksX9_free_0 13 rfl rfl)
theorem dX9_free_16 : decode cX9_free 16 = .ok (.aload_n 0, 1) := dk_42 (dk_at dksX9_free_0 16 rfl rfl)
theorem dX9_free_17 : decode cX9_free 17 = .ok (.aload_n 0, 1) := dk_42 (dk_at dksX9_free_0 17 rfl rfl)
theorem dX9_free_18 : decode cX9_free 18 = .ok (.getfield 72, 3) := dk_180 0 72 (dk_at dksX9_free_0 18 rfl rfl)
theorem dX9_free_21 : decode cX9_free 21 = .ok (.iload_n 2, 1) := dk_28 (dk_at dksX9_free_0 21 rfl rfl)
theorem dX9_free_22 : decode cX9_free 22 = .ok (.iaload, 1) := dk_46 (dk_at dksX9_free_0 22 rfl rfl)
theorem dX9_free_23 : decode cX9_free 23 = .ok (.invokevirtual 361, 3) := dk_182 1 105 (dk_at dksX9_free_1 0 rfl rfl)
theorem dX9_free_26 : decode cX9_free 26 = .ok (.iconst 0, 1) := dk_3 (dk_at dksX9_free_1 3 rfl rfl)
theorem dX9_free_27 : decode cX9_free 27 = .ok (.istore_n 3, 1) := dk_62 (dk_at dksX9_free_1 4 rfl rfl)
theorem dX9_free_28 : decode cX9_free 28 = .ok (.iload_n 3, 1) := dk_29 (dk_at dksX9_free_1 5 rfl rfl)
theorem dX9_free_29 : decode cX9_free 29 = .ok (.aload_n 0, 1) := dk_42 (dk_at dksX9_free_1 6 rfl rfl)
theorem dX9_free_30 : decode cX9_free 30 = .ok (.getfield 7, 3) := dk_180 0 7 (dk_at dksX9_free_1 7 rfl rfl)
theorem dX9_free_33 : decode cX9_free 33 = .ok (.iconst 2, 1) := dk_5 (dk_at dksX9_free_1 10 rfl rfl)
theorem dX9_free_34 : decode cX9_free 34 = .ok (.iaload, 1) := dk_46 (dk_at dksX9_free_1 11 rfl rfl)
theorem dX9_free_35 : decode cX9_free 35 = .ok (.if_icmp .ge 44, 3) := dk_162 0 44 (dk_at dksX9_free_1 12 rfl rfl)
theorem dX9_free_38 : decode cX9_free 38 = .ok (.iload_n 1, 1) := dk_27 (dk_at dksX9_free_1 15 rfl rfl)
theorem dX9_free_39 : decode cX9_free 39 = .ok (.aload_n 0, 1) := dk_42 (dk_at dksX9_free_1 16 rfl rfl)
theorem dX9_free_40 : decode cX9_free 40 = .ok (.iload_n 3, 1) := dk_29 (dk_at dksX9_free_1 17 rfl rfl)
theorem dX9_free_41 : decode cX9_free 41 = .ok (.iconst 2, 1) := dk_5 (dk_at dksX9_free_1 18 rfl rfl)
theorem dX9_free_42 : decode cX9_free 42 = .ok (.invokevirtual 258, 3) := dk_182 1 2 (dk_at dksX9_free_1 19 rfl rfl)
theorem dX9_free_45 : decode cX9_free 45 = .ok (.iconst (-1), 1) := dk_2 (dk_at dksX9_free_1 22 rfl rfl)
theorem dX9_free_46 : decode cX9_free 46 = .ok (.if_icmp .eq 18, 3) := dk_159 0 18 (dk_at dksX9_free_2 0 rfl rfl)
theorem dX9_free_49 : decode cX9_free 49 = .ok (.aload_n 0, 1) := dk_42 (dk_at dksX9_free_2 3 rfl rfl)
theorem dX9_free_50 : decode cX9_free 50 = .ok (.iload_n 3, 1) := dk_29 (dk_at dksX9_free_2 4 rfl rfl)
theorem dX9_free_51 : decode cX9_free 51 = .ok (.iconst 2, 1) := dk_5 (dk_at dksX9_free_2 5 rfl rfl)
theorem dX9_free_52 : decode cX9_free 52 = .ok (.invokevirtual 258, 3) := dk_182 1 2 (dk_at dksX9_free_2 6 rfl rfl)
theorem dX9_free_55 : decode cX9_free 55 = .ok (.aload_n 0, 1) := dk_42 (dk_at dksX9_free_2 9 rfl rfl)
theorem dX9_free_56 : decode cX9_free 56 = .ok (.getfield 47, 3) := dk_180 0 47 (dk_at dksX9_free_2 10 rfl rfl)
theorem dX9_free_59 : decode cX9_free 59 = .ok (.iload_n 3, 1) := dk_29 (dk_at dksX9_free_2 13 rfl rfl)
theorem dX9_free_60 : decode cX9_free 60 = .ok (.iaload, 1) := dk_46 (dk_at dksX9_free_2 14 rfl rfl)
theorem dX9_free_61 : decode cX9_free 61 = .ok (.if_icmp .ne 9, 3) := dk_160 0 9 (dk_at dksX9_free_2 15 rfl rfl)
theorem dX9_free_64 : decode cX9_free 64 = .ok (.iconst 1, 1) := dk_4 (dk_at dksX9_free_2 18 rfl rfl)
theorem dX9_free_65 : decode cX9_free 65 = .ok (.iload_n 3, 1) := dk_29 (dk_at dksX9_free_2 19 rfl rfl)
theorem dX9_free_66 : decode cX9_free 66 = .ok (.ishl, 1) := dk_120 (dk_at dksX9_free_2 20 rfl rfl)
theorem dX9_free_67 : decode cX9_free 67 = .ok (.goto 4, 3) := dk_167 0 4 (dk_at dksX9_free_2 21 rfl rfl)
theorem dX9_free_70 : decode cX9_free 70 = .ok (.iconst 0, 1) := dk_3 (dk_at dksX9_free_3 0 rfl rfl)
theorem dX9_free_71 : decode cX9_free 71 = .ok (.ior, 1) := dk_128 (dk_at dksX9_free_3 1 rfl rfl)
theorem dX9_free_72 : decode cX9_free 72 = .ok (.istore_n 1, 1) := dk_60 (dk_at dksX9_free_3 2 rfl rfl)
theorem dX9_free_73 : decode cX9_free 73 = .ok (.iinc 3 1, 3) := dk_132 3 1 (dk_at dksX9_free_3 3 rfl rfl)
theorem dX9_free_76 : decode cX9_free 76 = .ok (.goto (-48), 3) := dk_167 255 208 (dk_at dksX9_free_3 6 rfl rfl)
theorem dX9_free_79 : decode cX9_free 79 = .ok (.iinc 2 1, 3) := dk_132 2 1 (dk_at dksX9_free_3 9 rfl rfl)
theorem dX9_free_82 : decode cX9_free 82 = .ok (.goto (-74), 3) := dk_167 255 182 (dk_at dksX9_free_3 12 rfl rfl)
theorem dX9_free_85 : decode cX9_free 85 = .ok (.aload_n 0, 1) := dk_42 (dk_at dksX9_free_3 15 rfl rfl)
theorem dX9_free_86 : decode cX9_free 86 = .ok (.iload_n 1, 1) := dk_27 (dk_at dksX9_free_3 16 rfl rfl)
theorem dX9_free_87 : decode cX9_free 87 = .ok (.invokevirtual 107, 3) := dk_182 0 107 (dk_at dksX9_free_3 17 rfl rfl)
theorem dX9_free_90 : decode cX9_free 90 = .ok (.ireturn, 1) := dk_172 (dk_at dksX9_free_3 20 rfl rfl)
abbrev cX9_needed : ByteArray := prog_21_method_116_code
def yX9_needed : MethodName := ⟨RX9, "needed", "()I"⟩
def dkwX9_needed_2 : List UInt8 := [128, 60, 132, 2, 1, 167, 255, 221, 42, 2, 181, 0, 53, 42, 27, 182, 0, 107, 172]
abbrev dktX9_needed_2 : List UInt8 := dkwX9_needed_2 ++ []
def dkwX9_needed_1 : List UInt8 := [46, 162, 0, 31, 42, 28, 181, 0, 53, 27, 42, 182, 1, 153, 153, 0, 7, 3, 167, 0, 6, 4, 28, 120]
abbrev dktX9_needed_1 : List UInt8 := dkwX9_needed_1 ++ dktX9_needed_2
def dkwX9_needed_0 : List UInt8 := [42, 182, 1, 153, 154, 0, 10, 42, 16, 6, 182, 0, 103, 172, 3, 60, 3, 61, 28, 42, 180, 0, 7, 4]
abbrev dktX9_needed_0 : List UInt8 := dkwX9_needed_0 ++ dktX9_needed_1
theorem dksX9_needed_0 : cX9_needed.data.toList.drop 0 = dktX9_needed_0 := by decide +kernel
theorem dksX9_needed_1 : cX9_needed.data.toList.drop 24 = dktX9_needed_1 := dk_seg dksX9_needed_0 24 rfl rfl
theorem dksX9_needed_2 : cX9_needed.data.toList.drop 48 = dktX9_needed_2 := dk_seg dksX9_needed_1 24 rfl rfl
theorem dX9_needed_0 : decode cX9_needed 0 = .ok (.aload_n 0, 1) := dk_42 (dk_at dksX9_needed_0 0 rfl rfl)
theorem dX9_needed_1 : decode cX9_needed 1 = .ok (.invokevirtual 409, 3) := dk_182 1 153 (dk_at dksX9_needed_0 1 rfl rfl)
theorem dX9_needed_4 : decode cX9_needed 4 = .ok (.ifCond .ne 10, 3) := dk_154 0 10 (dk_at dksX9_needed_0 4 rfl rfl)
theorem dX9_needed_7 : decode cX9_needed 7 = .ok (.aload_n 0, 1) := dk_42 (dk_at dksX9_needed_0 7 rfl rfl)
theorem dX9_needed_8 : decode cX9_needed 8 = .ok (.bipush 6, 2) := dk_16 6 (dk_at dksX9_needed_0 8 rfl rfl)
theorem dX9_needed_10 : decode cX9_needed 10 = .ok (.invokevirtual 103, 3) := dk_182 0 103 (dk_at dksX9_needed_0 10 rfl rfl)
theorem dX9_needed_13 : decode cX9_needed 13 = .ok (.ireturn, 1) := dk_172 (dk_at dksX9_needed_0 13 rfl rfl)
theorem dX9_needed_14 : decode cX9_needed 14 = .ok (.iconst 0, 1) := dk_3 (dk_at dksX9_needed_0 14 rfl rfl)
theorem dX9_needed_15 : decode cX9_needed 15 = .ok (.istore_n 1, 1) := dk_60 (dk_at dksX9_needed_0 15 rfl rfl)
theorem dX9_needed_16 : decode cX9_needed 16 = .ok (.iconst 0, 1) := dk_3 (dk_at dksX9_needed_0 16 rfl rfl)
theorem dX9_needed_17 : decode cX9_needed 17 = .ok (.istore_n 2, 1) := dk_61 (dk_at dksX9_needed_0 17 rfl rfl)
theorem dX9_needed_18 : decode cX9_needed 18 = .ok (.iload_n 2, 1) := dk_28 (dk_at dksX9_needed_0 18 rfl rfl)
theorem dX9_needed_19 : decode cX9_needed 19 = .ok (.aload_n 0, 1) := dk_42 (dk_at dksX9_needed_0 19 rfl rfl)
theorem dX9_needed_20 : decode cX9_needed 20 = .ok (.getfield 7, 3) := dk_180 0 7 (dk_at dksX9_needed_0 20 rfl rfl)
theorem dX9_needed_23 : decode cX9_needed 23 = .ok (.iconst 1, 1) := dk_4 (dk_at dksX9_needed_0 23 rfl rfl)
theorem dX9_needed_24 : decode cX9_needed 24 = .ok (.iaload, 1) := dk_46 (dk_at dksX9_needed_1 0 rfl rfl)
theorem dX9_needed_25 : decode cX9_needed 25 = .ok (.if_icmp .ge 31, 3) := dk_162 0 31 (dk_at dksX9_needed_1 1 rfl rfl)
theorem dX9_needed_28 : decode cX9_needed 28 = .ok (.aload_n 0, 1) := dk_42 (dk_at dksX9_needed_1 4 rfl rfl)
theorem dX9_needed_29 : decode cX9_needed 29 = .ok (.iload_n 2, 1) := dk_28 (dk_at dksX9_needed_1 5 rfl rfl)
theorem dX9_needed_30 : decode cX9_needed 30 = .ok (.putfield 53, 3) := dk_181 0 53 (dk_at dksX9_needed_1 6 rfl rfl)
theorem dX9_needed_33 : decode cX9_needed 33 = .ok (.iload_n 1, 1) := dk_27 (dk_at dksX9_needed_1 9 rfl rfl)
theorem dX9_needed_34 : decode cX9_needed 34 = .ok (.aload_n 0, 1) := dk_42 (dk_at dksX9_needed_1 10 rfl rfl)
theorem dX9_needed_35 : decode cX9_needed 35 = .ok (.invokevirtual 409, 3) := dk_182 1 153 (dk_at dksX9_needed_1 11 rfl rfl)
theorem dX9_needed_38 : decode cX9_needed 38 = .ok (.ifCond .eq 7, 3) := dk_153 0 7 (dk_at dksX9_needed_1 14 rfl rfl)
theorem dX9_needed_41 : decode cX9_needed 41 = .ok (.iconst 0, 1) := dk_3 (dk_at dksX9_needed_1 17 rfl rfl)
theorem dX9_needed_42 : decode cX9_needed 42 = .ok (.goto 6, 3) := dk_167 0 6 (dk_at dksX9_needed_1 18 rfl rfl)
theorem dX9_needed_45 : decode cX9_needed 45 = .ok (.iconst 1, 1) := dk_4 (dk_at dksX9_needed_1 21 rfl rfl)
theorem dX9_needed_46 : decode cX9_needed 46 = .ok (.iload_n 2, 1) := dk_28 (dk_at dksX9_needed_1 22 rfl rfl)
theorem dX9_needed_47 : decode cX9_needed 47 = .ok (.ishl, 1) := dk_120 (dk_at dksX9_needed_1 23 rfl rfl)
theorem dX9_needed_48 : decode cX9_needed 48 = .ok (.ior, 1) := dk_128 (dk_at dksX9_needed_2 0 rfl rfl)
theorem dX9_needed_49 : decode cX9_needed 49 = .ok (.istore_n 1, 1) := dk_60 (dk_at dksX9_needed_2 1 rfl rfl)
theorem dX9_needed_50 : decode cX9_needed 50 = .ok (.iinc 2 1, 3) := dk_132 2 1 (dk_at dksX9_needed_2 2 rfl rfl)
theorem dX9_needed_53 : decode cX9_needed 53 = .ok (.goto (-35), 3) := dk_167 255 221 (dk_at dksX9_needed_2 5 rfl rfl)
theorem dX9_needed_56 : decode cX9_needed 56 = .ok (.aload_n 0, 1) := dk_42 (dk_at dksX9_needed_2 8 rfl rfl)
theorem dX9_needed_57 : decode cX9_needed 57 = .ok (.iconst (-1), 1) := dk_2 (dk_at dksX9_needed_2 9 rfl rfl)
theorem dX9_needed_58 : decode cX9_needed 58 = .ok (.putfield 53, 3) := dk_181 0 53 (dk_at dksX9_needed_2 10 rfl rfl)
theorem dX9_needed_61 : decode cX9_needed 61 = .ok (.aload_n 0, 1) := dk_42 (dk_at dksX9_needed_2 13 rfl rfl)
theorem dX9_needed_62 : decode cX9_needed 62 = .ok (.iload_n 1, 1) := dk_27 (dk_at dksX9_needed_2 14 rfl rfl)
theorem dX9_needed_63 : decode cX9_needed 63 = .ok (.invokevirtual 107, 3) := dk_182 0 107 (dk_at dksX9_needed_2 15 rfl rfl)
theorem dX9_needed_66 : decode cX9_needed 66 = .ok (.ireturn, 1) := dk_172 (dk_at dksX9_needed_2 18 rfl rfl)
abbrev cX9_canDo : ByteArray := prog_21_method_115_code
def yX9_canDo : MethodName := ⟨RX9, "canDo", "()Z"⟩
def dkwX9_canDo_0 : List UInt8 := [42, 182, 1, 129, 42, 182, 1, 141, 2, 159, 0, 7, 4, 167, 0, 4, 3, 172]
abbrev dktX9_canDo_0 : List UInt8 := dkwX9_canDo_0 ++ []
theorem dksX9_canDo_0 : cX9_canDo.data.toList.drop 0 = dktX9_canDo_0 := by decide +kernel
theorem dX9_canDo_0 : decode cX9_canDo 0 = .ok (.aload_n 0, 1) := dk_42 (dk_at dksX9_canDo_0 0 rfl rfl)
theorem dX9_canDo_1 : decode cX9_canDo 1 = .ok (.invokevirtual 385, 3) := dk_182 1 129 (dk_at dksX9_canDo_0 1 rfl rfl)
theorem dX9_canDo_4 : decode cX9_canDo 4 = .ok (.aload_n 0, 1) := dk_42 (dk_at dksX9_canDo_0 4 rfl rfl)
theorem dX9_canDo_5 : decode cX9_canDo 5 = .ok (.invokevirtual 397, 3) := dk_182 1 141 (dk_at dksX9_canDo_0 5 rfl rfl)
theorem dX9_canDo_8 : decode cX9_canDo 8 = .ok (.iconst (-1), 1) := dk_2 (dk_at dksX9_canDo_0 8 rfl rfl)
theorem dX9_canDo_9 : decode cX9_canDo 9 = .ok (.if_icmp .eq 7, 3) := dk_159 0 7 (dk_at dksX9_canDo_0 9 rfl rfl)
theorem dX9_canDo_12 : decode cX9_canDo 12 = .ok (.iconst 1, 1) := dk_4 (dk_at dksX9_canDo_0 12 rfl rfl)
theorem dX9_canDo_13 : decode cX9_canDo 13 = .ok (.goto 4, 3) := dk_167 0 4 (dk_at dksX9_canDo_0 13 rfl rfl)
theorem dX9_canDo_16 : decode cX9_canDo 16 = .ok (.iconst 0, 1) := dk_3 (dk_at dksX9_canDo_0 16 rfl rfl)
theorem dX9_canDo_17 : decode cX9_canDo 17 = .ok (.ireturn, 1) := dk_172 (dk_at dksX9_canDo_0 17 rfl rfl)
abbrev cX9_stone : ByteArray := prog_21_method_119_code
def yX9_stone : MethodName := ⟨RX9, "stone", "(I)I"⟩
def dkwX9_stone_1 : List UInt8 := [182, 0, 103, 172]
abbrev dktX9_stone_1 : List UInt8 := dkwX9_stone_1 ++ []
def dkwX9_stone_0 : List UInt8 := [42, 27, 182, 1, 47, 153, 0, 15, 42, 42, 27, 182, 1, 159, 182, 1, 44, 167, 0, 8, 42, 4]
abbrev dktX9_stone_0 : List UInt8 := dkwX9_stone_0 ++ dktX9_stone_1
theorem dksX9_stone_0 : cX9_stone.data.toList.drop 0 = dktX9_stone_0 := by decide +kernel
theorem dksX9_stone_1 : cX9_stone.data.toList.drop 22 = dktX9_stone_1 := dk_seg dksX9_stone_0 22 rfl rfl
theorem dX9_stone_0 : decode cX9_stone 0 = .ok (.aload_n 0, 1) := dk_42 (dk_at dksX9_stone_0 0 rfl rfl)
theorem dX9_stone_1 : decode cX9_stone 1 = .ok (.iload_n 1, 1) := dk_27 (dk_at dksX9_stone_0 1 rfl rfl)
theorem dX9_stone_2 : decode cX9_stone 2 = .ok (.invokevirtual 303, 3) := dk_182 1 47 (dk_at dksX9_stone_0 2 rfl rfl)
theorem dX9_stone_5 : decode cX9_stone 5 = .ok (.ifCond .eq 15, 3) := dk_153 0 15 (dk_at dksX9_stone_0 5 rfl rfl)
theorem dX9_stone_8 : decode cX9_stone 8 = .ok (.aload_n 0, 1) := dk_42 (dk_at dksX9_stone_0 8 rfl rfl)
theorem dX9_stone_9 : decode cX9_stone 9 = .ok (.aload_n 0, 1) := dk_42 (dk_at dksX9_stone_0 9 rfl rfl)
theorem dX9_stone_10 : decode cX9_stone 10 = .ok (.iload_n 1, 1) := dk_27 (dk_at dksX9_stone_0 10 rfl rfl)
theorem dX9_stone_11 : decode cX9_stone 11 = .ok (.invokevirtual 415, 3) := dk_182 1 159 (dk_at dksX9_stone_0 11 rfl rfl)
theorem dX9_stone_14 : decode cX9_stone 14 = .ok (.invokevirtual 300, 3) := dk_182 1 44 (dk_at dksX9_stone_0 14 rfl rfl)
theorem dX9_stone_17 : decode cX9_stone 17 = .ok (.goto 8, 3) := dk_167 0 8 (dk_at dksX9_stone_0 17 rfl rfl)
theorem dX9_stone_20 : decode cX9_stone 20 = .ok (.aload_n 0, 1) := dk_42 (dk_at dksX9_stone_0 20 rfl rfl)
theorem dX9_stone_21 : decode cX9_stone 21 = .ok (.iconst 1, 1) := dk_4 (dk_at dksX9_stone_0 21 rfl rfl)
theorem dX9_stone_22 : decode cX9_stone 22 = .ok (.invokevirtual 103, 3) := dk_182 0 103 (dk_at dksX9_stone_1 0 rfl rfl)
theorem dX9_stone_25 : decode cX9_stone 25 = .ok (.ireturn, 1) := dk_172 (dk_at dksX9_stone_1 3 rfl rfl)
abbrev cX9_stoneAt : ByteArray := prog_21_method_118_code
def yX9_stoneAt : MethodName := ⟨RX9, "stoneAt", "(I)I"⟩
def dkwX9_stoneAt_2 : List UInt8 := [21, 4, 4, 96, 61, 167, 255, 223, 29, 172]
abbrev dktX9_stoneAt_2 : List UInt8 := dkwX9_stoneAt_2 ++ []
def dkwX9_stoneAt_1 : List UInt8 := [28, 29, 96, 5, 108, 54, 4, 42, 27, 21, 4, 182, 1, 156, 153, 0, 9, 21, 4, 62, 167, 0, 8]
abbrev dktX9_stoneAt_1 : List UInt8 := dkwX9_stoneAt_1 ++ dktX9_stoneAt_2
def dkwX9_stoneAt_0 : List UInt8 := [42, 27, 17, 3, 231, 182, 1, 156, 154, 0, 5, 2, 172, 3, 61, 17, 3, 231, 62, 28, 29, 162, 0, 34]
abbrev dktX9_stoneAt_0 : List UInt8 := dkwX9_stoneAt_0 ++ dktX9_stoneAt_1
theorem dksX9_stoneAt_0 : cX9_stoneAt.data.toList.drop 0 = dktX9_stoneAt_0 := by decide +kernel
theorem dksX9_stoneAt_1 : cX9_stoneAt.data.toList.drop 24 = dktX9_stoneAt_1 := dk_seg dksX9_stoneAt_0 24 rfl rfl
theorem dksX9_stoneAt_2 : cX9_stoneAt.data.toList.drop 47 = dktX9_stoneAt_2 := dk_seg dksX9_stoneAt_1 23 rfl rfl
theorem dX9_stoneAt_0 : decode cX9_stoneAt 0 = .ok (.aload_n 0, 1) := dk_42 (dk_at dksX9_stoneAt_0 0 rfl rfl)
theorem dX9_stoneAt_1 : decode cX9_stoneAt 1 = .ok (.iload_n 1, 1) := dk_27 (dk_at dksX9_stoneAt_0 1 rfl rfl)
theorem dX9_stoneAt_2 : decode cX9_stoneAt 2 = .ok (.sipush 999, 3) := dk_17 3 231 (dk_at dksX9_stoneAt_0 2 rfl rfl)
theorem dX9_stoneAt_5 : decode cX9_stoneAt 5 = .ok (.invokevirtual 412, 3) := dk_182 1 156 (dk_at dksX9_stoneAt_0 5 rfl rfl)
theorem dX9_stoneAt_8 : decode cX9_stoneAt 8 = .ok (.ifCond .ne 5, 3) := dk_154 0 5 (dk_at dksX9_stoneAt_0 8 rfl rfl)
theorem dX9_stoneAt_11 : decode cX9_stoneAt 11 = .ok (.iconst (-1), 1) := dk_2 (dk_at dksX9_stoneAt_0 11 rfl rfl)
theorem dX9_stoneAt_12 : decode cX9_stoneAt 12 = .ok (.ireturn, 1) := dk_172 (dk_at dksX9_stoneAt_0 12 rfl rfl)
theorem dX9_stoneAt_13 : decode cX9_stoneAt 13 = .ok (.iconst 0, 1) := dk_3 (dk_at dksX9_stoneAt_0 13 rfl rfl)
theorem dX9_stoneAt_14 : decode cX9_stoneAt 14 = .ok (.istore_n 2, 1) := dk_61 (dk_at dksX9_stoneAt_0 14 rfl rfl)
theorem dX9_stoneAt_15 : decode cX9_stoneAt 15 = .ok (.sipush 999, 3) := dk_17 3 231 (dk_at dksX9_stoneAt_0 15 rfl rfl)
theorem dX9_stoneAt_18 : decode cX9_stoneAt 18 = .ok (.istore_n 3, 1) := dk_62 (dk_at dksX9_stoneAt_0 18 rfl rfl)
theorem dX9_stoneAt_19 : decode cX9_stoneAt 19 = .ok (.iload_n 2, 1) := dk_28 (dk_at dksX9_stoneAt_0 19 rfl rfl)
theorem dX9_stoneAt_20 : decode cX9_stoneAt 20 = .ok (.iload_n 3, 1) := dk_29 (dk_at dksX9_stoneAt_0 20 rfl rfl)
theorem dX9_stoneAt_21 : decode cX9_stoneAt 21 = .ok (.if_icmp .ge 34, 3) := dk_162 0 34 (dk_at dksX9_stoneAt_0 21 rfl rfl)
theorem dX9_stoneAt_24 : decode cX9_stoneAt 24 = .ok (.iload_n 2, 1) := dk_28 (dk_at dksX9_stoneAt_1 0 rfl rfl)
theorem dX9_stoneAt_25 : decode cX9_stoneAt 25 = .ok (.iload_n 3, 1) := dk_29 (dk_at dksX9_stoneAt_1 1 rfl rfl)
theorem dX9_stoneAt_26 : decode cX9_stoneAt 26 = .ok (.iadd, 1) := dk_96 (dk_at dksX9_stoneAt_1 2 rfl rfl)
theorem dX9_stoneAt_27 : decode cX9_stoneAt 27 = .ok (.iconst 2, 1) := dk_5 (dk_at dksX9_stoneAt_1 3 rfl rfl)
theorem dX9_stoneAt_28 : decode cX9_stoneAt 28 = .ok (.idiv, 1) := dk_108 (dk_at dksX9_stoneAt_1 4 rfl rfl)
theorem dX9_stoneAt_29 : decode cX9_stoneAt 29 = .ok (.istore 4, 2) := dk_54 4 (dk_at dksX9_stoneAt_1 5 rfl rfl)
theorem dX9_stoneAt_31 : decode cX9_stoneAt 31 = .ok (.aload_n 0, 1) := dk_42 (dk_at dksX9_stoneAt_1 7 rfl rfl)
theorem dX9_stoneAt_32 : decode cX9_stoneAt 32 = .ok (.iload_n 1, 1) := dk_27 (dk_at dksX9_stoneAt_1 8 rfl rfl)
theorem dX9_stoneAt_33 : decode cX9_stoneAt 33 = .ok (.iload 4, 2) := dk_21 4 (dk_at dksX9_stoneAt_1 9 rfl rfl)
theorem dX9_stoneAt_35 : decode cX9_stoneAt 35 = .ok (.invokevirtual 412, 3) := dk_182 1 156 (dk_at dksX9_stoneAt_1 11 rfl rfl)
theorem dX9_stoneAt_38 : decode cX9_stoneAt 38 = .ok (.ifCond .eq 9, 3) := dk_153 0 9 (dk_at dksX9_stoneAt_1 14 rfl rfl)
theorem dX9_stoneAt_41 : decode cX9_stoneAt 41 = .ok (.iload 4, 2) := dk_21 4 (dk_at dksX9_stoneAt_1 17 rfl rfl)
theorem dX9_stoneAt_43 : decode cX9_stoneAt 43 = .ok (.istore_n 3, 1) := dk_62 (dk_at dksX9_stoneAt_1 19 rfl rfl)
theorem dX9_stoneAt_44 : decode cX9_stoneAt 44 = .ok (.goto 8, 3) := dk_167 0 8 (dk_at dksX9_stoneAt_1 20 rfl rfl)
theorem dX9_stoneAt_47 : decode cX9_stoneAt 47 = .ok (.iload 4, 2) := dk_21 4 (dk_at dksX9_stoneAt_2 0 rfl rfl)
theorem dX9_stoneAt_49 : decode cX9_stoneAt 49 = .ok (.iconst 1, 1) := dk_4 (dk_at dksX9_stoneAt_2 2 rfl rfl)
theorem dX9_stoneAt_50 : decode cX9_stoneAt 50 = .ok (.iadd, 1) := dk_96 (dk_at dksX9_stoneAt_2 3 rfl rfl)
theorem dX9_stoneAt_51 : decode cX9_stoneAt 51 = .ok (.istore_n 2, 1) := dk_61 (dk_at dksX9_stoneAt_2 4 rfl rfl)
theorem dX9_stoneAt_52 : decode cX9_stoneAt 52 = .ok (.goto (-33), 3) := dk_167 255 223 (dk_at dksX9_stoneAt_2 5 rfl rfl)
theorem dX9_stoneAt_55 : decode cX9_stoneAt 55 = .ok (.iload_n 3, 1) := dk_29 (dk_at dksX9_stoneAt_2 8 rfl rfl)
theorem dX9_stoneAt_56 : decode cX9_stoneAt 56 = .ok (.ireturn, 1) := dk_172 (dk_at dksX9_stoneAt_2 9 rfl rfl)
abbrev cX9_canWith : ByteArray := prog_21_method_117_code
def yX9_canWith : MethodName := ⟨RX9, "canWith", "(II)Z"⟩
def dkwX9_canWith_0 : List UInt8 := [42, 27, 181, 1, 53, 42, 28, 181, 1, 56, 42, 182, 1, 153, 62, 42, 3, 181, 1, 56, 29, 172]
abbrev dktX9_canWith_0 : List UInt8 := dkwX9_canWith_0 ++ []
theorem dksX9_canWith_0 : cX9_canWith.data.toList.drop 0 = dktX9_canWith_0 := by decide +kernel
theorem dX9_canWith_0 : decode cX9_canWith 0 = .ok (.aload_n 0, 1) := dk_42 (dk_at dksX9_canWith_0 0 rfl rfl)
theorem dX9_canWith_1 : decode cX9_canWith 1 = .ok (.iload_n 1, 1) := dk_27 (dk_at dksX9_canWith_0 1 rfl rfl)
theorem dX9_canWith_2 : decode cX9_canWith 2 = .ok (.putfield 309, 3) := dk_181 1 53 (dk_at dksX9_canWith_0 2 rfl rfl)
theorem dX9_canWith_5 : decode cX9_canWith 5 = .ok (.aload_n 0, 1) := dk_42 (dk_at dksX9_canWith_0 5 rfl rfl)
theorem dX9_canWith_6 : decode cX9_canWith 6 = .ok (.iload_n 2, 1) := dk_28 (dk_at dksX9_canWith_0 6 rfl rfl)
theorem dX9_canWith_7 : decode cX9_canWith 7 = .ok (.putfield 312, 3) := dk_181 1 56 (dk_at dksX9_canWith_0 7 rfl rfl)
theorem dX9_canWith_10 : decode cX9_canWith 10 = .ok (.aload_n 0, 1) := dk_42 (dk_at dksX9_canWith_0 10 rfl rfl)
theorem dX9_canWith_11 : decode cX9_canWith 11 = .ok (.invokevirtual 409, 3) := dk_182 1 153 (dk_at dksX9_canWith_0 11 rfl rfl)
theorem dX9_canWith_14 : decode cX9_canWith 14 = .ok (.istore_n 3, 1) := dk_62 (dk_at dksX9_canWith_0 14 rfl rfl)
theorem dX9_canWith_15 : decode cX9_canWith 15 = .ok (.aload_n 0, 1) := dk_42 (dk_at dksX9_canWith_0 15 rfl rfl)
theorem dX9_canWith_16 : decode cX9_canWith 16 = .ok (.iconst 0, 1) := dk_3 (dk_at dksX9_canWith_0 16 rfl rfl)
theorem dX9_canWith_17 : decode cX9_canWith 17 = .ok (.putfield 312, 3) := dk_181 1 56 (dk_at dksX9_canWith_0 17 rfl rfl)
theorem dX9_canWith_20 : decode cX9_canWith 20 = .ok (.iload_n 3, 1) := dk_29 (dk_at dksX9_canWith_0 20 rfl rfl)
theorem dX9_canWith_21 : decode cX9_canWith 21 = .ok (.ireturn, 1) := dk_172 (dk_at dksX9_canWith_0 21 rfl rfl)
abbrev cX9_bestStone : ByteArray := prog_21_method_120_code
def yX9_bestStone : MethodName := ⟨RX9, "bestStone", "(I)I"⟩
def dkwX9_bestStone_4 : List UInt8 := [167, 0, 4, 29, 182, 0, 107, 172]
abbrev dktX9_bestStone_4 : List UInt8 := dkwX9_bestStone_4 ++ []
def dkwX9_bestStone_3 : List UInt8 := [167, 255, 208, 28, 2, 160, 0, 12, 42, 16, 6, 182, 0, 103, 167, 0, 16, 42, 27, 154, 0, 7, 28]
abbrev dktX9_bestStone_3 : List UInt8 := dkwX9_bestStone_3 ++ dktX9_bestStone_4
def dkwX9_bestStone_2 : List UInt8 := [2, 159, 0, 12, 21, 5, 29, 161, 0, 6, 167, 0, 9, 21, 4, 61, 21, 5, 62, 132, 4, 1]
abbrev dktX9_bestStone_2 : List UInt8 := dkwX9_bestStone_2 ++ dktX9_bestStone_3
def dkwX9_bestStone_1 : List UInt8 := [42, 180, 0, 7, 3, 46, 162, 0, 43, 42, 21, 4, 182, 1, 159, 54, 5, 21, 5, 2, 159, 0, 23, 28]
abbrev dktX9_bestStone_1 : List UInt8 := dkwX9_bestStone_1 ++ dktX9_bestStone_2
def dkwX9_bestStone_0 : List UInt8 := [27, 155, 0, 8, 27, 4, 164, 0, 9, 42, 4, 182, 0, 103, 172, 2, 61, 3, 62, 3, 54, 4, 21, 4]
abbrev dktX9_bestStone_0 : List UInt8 := dkwX9_bestStone_0 ++ dktX9_bestStone_1
theorem dksX9_bestStone_0 : cX9_bestStone.data.toList.drop 0 = dktX9_bestStone_0 := by decide +kernel
theorem dksX9_bestStone_1 : cX9_bestStone.data.toList.drop 24 = dktX9_bestStone_1 := dk_seg dksX9_bestStone_0 24 rfl rfl
theorem dksX9_bestStone_2 : cX9_bestStone.data.toList.drop 48 = dktX9_bestStone_2 := dk_seg dksX9_bestStone_1 24 rfl rfl
theorem dksX9_bestStone_3 : cX9_bestStone.data.toList.drop 70 = dktX9_bestStone_3 := dk_seg dksX9_bestStone_2 22 rfl rfl
theorem dksX9_bestStone_4 : cX9_bestStone.data.toList.drop 93 = dktX9_bestStone_4 := dk_seg dksX9_bestStone_3 23 rfl rfl
theorem dX9_bestStone_0 : decode cX9_bestStone 0 = .ok (.iload_n 1, 1) := dk_27 (dk_at dksX9_bestStone_0 0 rfl rfl)
theorem dX9_bestStone_1 : decode cX9_bestStone 1 = .ok (.ifCond .lt 8, 3) := dk_155 0 8 (dk_at dksX9_bestStone_0 1 rfl rfl)
theorem dX9_bestStone_4 : decode cX9_bestStone 4 = .ok (.iload_n 1, 1) := dk_27 (dk_at dksX9_bestStone_0 4 rfl rfl)
theorem dX9_bestStone_5 : decode cX9_bestStone 5 = .ok (.iconst 1, 1) := dk_4 (dk_at dksX9_bestStone_0 5 rfl rfl)
theorem dX9_bestStone_6 : decode cX9_bestStone 6 = .ok (.if_icmp .le 9, 3) := dk_164 0 9 (dk_at dksX9_bestStone_0 6 rfl rfl)
theorem dX9_bestStone_9 : decode cX9_bestStone 9 = .ok (.aload_n 0, 1) := dk_42 (dk_at dksX9_bestStone_0 9 rfl rfl)
theorem dX9_bestStone_10 : decode cX9_bestStone 10 = .ok (.iconst 1, 1) := dk_4 (dk_at dksX9_bestStone_0 10 rfl rfl)
theorem dX9_bestStone_11 : decode cX9_bestStone 11 = .ok (.invokevirtual 103, 3) := dk_182 0 103 (dk_at dksX9_bestStone_0 11 rfl rfl)
theorem dX9_bestStone_14 : decode cX9_bestStone 14 = .ok (.ireturn, 1) := dk_172 (dk_at dksX9_bestStone_0 14 rfl rfl)
theorem dX9_bestStone_15 : decode cX9_bestStone 15 = .ok (.iconst (-1), 1) := dk_2 (dk_at dksX9_bestStone_0 15 rfl rfl)
theorem dX9_bestStone_16 : decode cX9_bestStone 16 = .ok (.istore_n 2, 1) := dk_61 (dk_at dksX9_bestStone_0 16 rfl rfl)
theorem dX9_bestStone_17 : decode cX9_bestStone 17 = .ok (.iconst 0, 1) := dk_3 (dk_at dksX9_bestStone_0 17 rfl rfl)
theorem dX9_bestStone_18 : decode cX9_bestStone 18 = .ok (.istore_n 3, 1) := dk_62 (dk_at dksX9_bestStone_0 18 rfl rfl)
theorem dX9_bestStone_19 : decode cX9_bestStone 19 = .ok (.iconst 0, 1) := dk_3 (dk_at dksX9_bestStone_0 19 rfl rfl)
theorem dX9_bestStone_20 : decode cX9_bestStone 20 = .ok (.istore 4, 2) := dk_54 4 (dk_at dksX9_bestStone_0 20 rfl rfl)
theorem dX9_bestStone_22 : decode cX9_bestStone 22 = .ok (.iload 4, 2) := dk_21 4 (dk_at dksX9_bestStone_0 22 rfl rfl)
theorem dX9_bestStone_24 : decode cX9_bestStone 24 = .ok (.aload_n 0, 1) := dk_42 (dk_at dksX9_bestStone_1 0 rfl rfl)
theorem dX9_bestStone_25 : decode cX9_bestStone 25 = .ok (.getfield 7, 3) := dk_180 0 7 (dk_at dksX9_bestStone_1 1 rfl rfl)
theorem dX9_bestStone_28 : decode cX9_bestStone 28 = .ok (.iconst 0, 1) := dk_3 (dk_at dksX9_bestStone_1 4 rfl rfl)
theorem dX9_bestStone_29 : decode cX9_bestStone 29 = .ok (.iaload, 1) := dk_46 (dk_at dksX9_bestStone_1 5 rfl rfl)
theorem dX9_bestStone_30 : decode cX9_bestStone 30 = .ok (.if_icmp .ge 43, 3) := dk_162 0 43 (dk_at dksX9_bestStone_1 6 rfl rfl)
theorem dX9_bestStone_33 : decode cX9_bestStone 33 = .ok (.aload_n 0, 1) := dk_42 (dk_at dksX9_bestStone_1 9 rfl rfl)
theorem dX9_bestStone_34 : decode cX9_bestStone 34 = .ok (.iload 4, 2) := dk_21 4 (dk_at dksX9_bestStone_1 10 rfl rfl)
theorem dX9_bestStone_36 : decode cX9_bestStone 36 = .ok (.invokevirtual 415, 3) := dk_182 1 159 (dk_at dksX9_bestStone_1 12 rfl rfl)
theorem dX9_bestStone_39 : decode cX9_bestStone 39 = .ok (.istore 5, 2) := dk_54 5 (dk_at dksX9_bestStone_1 15 rfl rfl)
theorem dX9_bestStone_41 : decode cX9_bestStone 41 = .ok (.iload 5, 2) := dk_21 5 (dk_at dksX9_bestStone_1 17 rfl rfl)
theorem dX9_bestStone_43 : decode cX9_bestStone 43 = .ok (.iconst (-1), 1) := dk_2 (dk_at dksX9_bestStone_1 19 rfl rfl)
theorem dX9_bestStone_44 : decode cX9_bestStone 44 = .ok (.if_icmp .eq 23, 3) := dk_159 0 23 (dk_at dksX9_bestStone_1 20 rfl rfl)
theorem dX9_bestStone_47 : decode cX9_bestStone 47 = .ok (.iload_n 2, 1) := dk_28 (dk_at dksX9_bestStone_1 23 rfl rfl)
theorem dX9_bestStone_48 : decode cX9_bestStone 48 = .ok (.iconst (-1), 1) := dk_2 (dk_at dksX9_bestStone_2 0 rfl rfl)
theorem dX9_bestStone_49 : decode cX9_bestStone 49 = .ok (.if_icmp .eq 12, 3) := dk_159 0 12 (dk_at dksX9_bestStone_2 1 rfl rfl)
theorem dX9_bestStone_52 : decode cX9_bestStone 52 = .ok (.iload 5, 2) := dk_21 5 (dk_at dksX9_bestStone_2 4 rfl rfl)
theorem dX9_bestStone_54 : decode cX9_bestStone 54 = .ok (.iload_n 3, 1) := dk_29 (dk_at dksX9_bestStone_2 6 rfl rfl)
theorem dX9_bestStone_55 : decode cX9_bestStone 55 = .ok (.if_icmp .lt 6, 3) := dk_161 0 6 (dk_at dksX9_bestStone_2 7 rfl rfl)
theorem dX9_bestStone_58 : decode cX9_bestStone 58 = .ok (.goto 9, 3) := dk_167 0 9 (dk_at dksX9_bestStone_2 10 rfl rfl)
theorem dX9_bestStone_61 : decode cX9_bestStone 61 = .ok (.iload 4, 2) := dk_21 4 (dk_at dksX9_bestStone_2 13 rfl rfl)
theorem dX9_bestStone_63 : decode cX9_bestStone 63 = .ok (.istore_n 2, 1) := dk_61 (dk_at dksX9_bestStone_2 15 rfl rfl)
theorem dX9_bestStone_64 : decode cX9_bestStone 64 = .ok (.iload 5, 2) := dk_21 5 (dk_at dksX9_bestStone_2 16 rfl rfl)
theorem dX9_bestStone_66 : decode cX9_bestStone 66 = .ok (.istore_n 3, 1) := dk_62 (dk_at dksX9_bestStone_2 18 rfl rfl)
theorem dX9_bestStone_67 : decode cX9_bestStone 67 = .ok (.iinc 4 1, 3) := dk_132 4 1 (dk_at dksX9_bestStone_2 19 rfl rfl)
theorem dX9_bestStone_70 : decode cX9_bestStone 70 = .ok (.goto (-48), 3) := dk_167 255 208 (dk_at dksX9_bestStone_3 0 rfl rfl)
theorem dX9_bestStone_73 : decode cX9_bestStone 73 = .ok (.iload_n 2, 1) := dk_28 (dk_at dksX9_bestStone_3 3 rfl rfl)
theorem dX9_bestStone_74 : decode cX9_bestStone 74 = .ok (.iconst (-1), 1) := dk_2 (dk_at dksX9_bestStone_3 4 rfl rfl)
theorem dX9_bestStone_75 : decode cX9_bestStone 75 = .ok (.if_icmp .ne 12, 3) := dk_160 0 12 (dk_at dksX9_bestStone_3 5 rfl rfl)
theorem dX9_bestStone_78 : decode cX9_bestStone 78 = .ok (.aload_n 0, 1) := dk_42 (dk_at dksX9_bestStone_3 8 rfl rfl)
theorem dX9_bestStone_79 : decode cX9_bestStone 79 = .ok (.bipush 6, 2) := dk_16 6 (dk_at dksX9_bestStone_3 9 rfl rfl)
theorem dX9_bestStone_81 : decode cX9_bestStone 81 = .ok (.invokevirtual 103, 3) := dk_182 0 103 (dk_at dksX9_bestStone_3 11 rfl rfl)
theorem dX9_bestStone_84 : decode cX9_bestStone 84 = .ok (.goto 16, 3) := dk_167 0 16 (dk_at dksX9_bestStone_3 14 rfl rfl)
theorem dX9_bestStone_87 : decode cX9_bestStone 87 = .ok (.aload_n 0, 1) := dk_42 (dk_at dksX9_bestStone_3 17 rfl rfl)
theorem dX9_bestStone_88 : decode cX9_bestStone 88 = .ok (.iload_n 1, 1) := dk_27 (dk_at dksX9_bestStone_3 18 rfl rfl)
theorem dX9_bestStone_89 : decode cX9_bestStone 89 = .ok (.ifCond .ne 7, 3) := dk_154 0 7 (dk_at dksX9_bestStone_3 19 rfl rfl)
theorem dX9_bestStone_92 : decode cX9_bestStone 92 = .ok (.iload_n 2, 1) := dk_28 (dk_at dksX9_bestStone_3 22 rfl rfl)
theorem dX9_bestStone_93 : decode cX9_bestStone 93 = .ok (.goto 4, 3) := dk_167 0 4 (dk_at dksX9_bestStone_4 0 rfl rfl)
theorem dX9_bestStone_96 : decode cX9_bestStone 96 = .ok (.iload_n 3, 1) := dk_29 (dk_at dksX9_bestStone_4 3 rfl rfl)
theorem dX9_bestStone_97 : decode cX9_bestStone 97 = .ok (.invokevirtual 107, 3) := dk_182 0 107 (dk_at dksX9_bestStone_4 4 rfl rfl)
theorem dX9_bestStone_100 : decode cX9_bestStone 100 = .ok (.ireturn, 1) := dk_172 (dk_at dksX9_bestStone_4 7 rfl rfl)
abbrev cX9_rope : ByteArray := prog_21_method_121_code
def yX9_rope : MethodName := ⟨RX9, "rope", "(III)I"⟩
def dkwX9_rope_9 : List UInt8 := [16, 7, 182, 0, 103, 172, 42, 29, 154, 0, 8, 21, 4, 167, 0, 5, 21, 5, 182, 0, 107, 172]
abbrev dktX9_rope_9 : List UInt8 := dkwX9_rope_9 ++ []
def dkwX9_rope_8 : List UInt8 := [136, 4, 96, 167, 0, 5, 21, 4, 54, 4, 132, 6, 1, 167, 255, 133, 21, 4, 21, 5, 164, 0, 10, 42]
abbrev dktX9_rope_8 : List UInt8 := dkwX9_rope_8 ++ dktX9_rope_9
def dkwX9_rope_7 : List UInt8 := [136, 167, 0, 5, 21, 5, 54, 5, 167, 0, 26, 22, 7, 10, 97, 21, 4, 133, 148, 158, 0, 11, 22, 7]
abbrev dktX9_rope_7 : List UInt8 := dkwX9_rope_7 ++ dktX9_rope_8
def dkwX9_rope_6 : List UInt8 := [42, 8, 182, 0, 103, 172, 22, 9, 10, 148, 154, 0, 25, 22, 7, 21, 5, 133, 148, 156, 0, 9, 22, 7]
abbrev dktX9_rope_6 : List UInt8 := dkwX9_rope_6 ++ dktX9_rope_7
def dkwX9_rope_5 : List UInt8 := [55, 9, 22, 7, 9, 20, 1, 168, 184, 1, 164, 153, 0, 13, 22, 9, 9, 10, 184, 1, 164, 154, 0, 9]
abbrev dktX9_rope_5 : List UInt8 := dkwX9_rope_5 ++ dktX9_rope_6
def dkwX9_rope_4 : List UInt8 := [5, 21, 6, 104, 96, 47, 55, 7, 42, 180, 0, 27, 16, 60, 27, 104, 5, 21, 6, 104, 96, 4, 96, 47]
abbrev dktX9_rope_4 : List UInt8 := dkwX9_rope_4 ++ dktX9_rope_5
def dkwX9_rope_3 : List UInt8 := [54, 4, 17, 39, 15, 54, 5, 3, 54, 6, 21, 6, 28, 162, 0, 123, 42, 180, 0, 27, 16, 60, 27, 104]
abbrev dktX9_rope_3 : List UInt8 := dkwX9_rope_3 ++ dktX9_rope_4
def dkwX9_rope_2 : List UInt8 := [182, 0, 103, 172, 42, 180, 0, 24, 27, 46, 5, 28, 104, 162, 0, 9, 42, 6, 182, 0, 103, 172, 3]
abbrev dktX9_rope_2 : List UInt8 := dkwX9_rope_2 ++ dktX9_rope_3
def dkwX9_rope_1 : List UInt8 := [4, 164, 0, 9, 42, 4, 182, 0, 103, 172, 42, 180, 0, 24, 27, 46, 2, 160, 0, 9, 42, 5]
abbrev dktX9_rope_1 : List UInt8 := dkwX9_rope_1 ++ dktX9_rope_2
def dkwX9_rope_0 : List UInt8 := [27, 184, 0, 114, 153, 0, 24, 28, 133, 10, 20, 1, 162, 184, 1, 164, 153, 0, 12, 29, 155, 0, 8, 29]
abbrev dktX9_rope_0 : List UInt8 := dkwX9_rope_0 ++ dktX9_rope_1
theorem dksX9_rope_0 : cX9_rope.data.toList.drop 0 = dktX9_rope_0 := by decide +kernel
theorem dksX9_rope_1 : cX9_rope.data.toList.drop 24 = dktX9_rope_1 := dk_seg dksX9_rope_0 24 rfl rfl
theorem dksX9_rope_2 : cX9_rope.data.toList.drop 46 = dktX9_rope_2 := dk_seg dksX9_rope_1 22 rfl rfl
theorem dksX9_rope_3 : cX9_rope.data.toList.drop 69 = dktX9_rope_3 := dk_seg dksX9_rope_2 23 rfl rfl
theorem dksX9_rope_4 : cX9_rope.data.toList.drop 93 = dktX9_rope_4 := dk_seg dksX9_rope_3 24 rfl rfl
theorem dksX9_rope_5 : cX9_rope.data.toList.drop 117 = dktX9_rope_5 := dk_seg dksX9_rope_4 24 rfl rfl
theorem dksX9_rope_6 : cX9_rope.data.toList.drop 141 = dktX9_rope_6 := dk_seg dksX9_rope_5 24 rfl rfl
theorem dksX9_rope_7 : cX9_rope.data.toList.drop 165 = dktX9_rope_7 := dk_seg dksX9_rope_6 24 rfl rfl
theorem dksX9_rope_8 : cX9_rope.data.toList.drop 189 = dktX9_rope_8 := dk_seg dksX9_rope_7 24 rfl rfl
theorem dksX9_rope_9 : cX9_rope.data.toList.drop 213 = dktX9_rope_9 := dk_seg dksX9_rope_8 24 rfl rfl
theorem dX9_rope_0 : decode cX9_rope 0 = .ok (.iload_n 1, 1) := dk_27 (dk_at dksX9_rope_0 0 rfl rfl)
theorem dX9_rope_1 : decode cX9_rope 1 = .ok (.invokestatic 114, 3) := dk_184 0 114 (dk_at dksX9_rope_0 1 rfl rfl)
theorem dX9_rope_4 : decode cX9_rope 4 = .ok (.ifCond .eq 24, 3) := dk_153 0 24 (dk_at dksX9_rope_0 4 rfl rfl)
theorem dX9_rope_7 : decode cX9_rope 7 = .ok (.iload_n 2, 1) := dk_28 (dk_at dksX9_rope_0 7 rfl rfl)
theorem dX9_rope_8 : decode cX9_rope 8 = .ok (.i2l, 1) := dk_133 (dk_at dksX9_rope_0 8 rfl rfl)
theorem dX9_rope_9 : decode cX9_rope 9 = .ok (.lconst 1, 1) := dk_10 (dk_at dksX9_rope_0 9 rfl rfl)
theorem dX9_rope_10 : decode cX9_rope 10 = .ok (.ldc2_w 418, 3) := dk_20 1 162 (dk_at dksX9_rope_0 10 rfl rfl)
theorem dX9_rope_13 : decode cX9_rope 13 = .ok (.invokestatic 420, 3) := dk_184 1 164 (dk_at dksX9_rope_0 13 rfl rfl)
theorem dX9_rope_16 : decode cX9_rope 16 = .ok (.ifCond .eq 12, 3) := dk_153 0 12 (dk_at dksX9_rope_0 16 rfl rfl)
theorem dX9_rope_19 : decode cX9_rope 19 = .ok (.iload_n 3, 1) := dk_29 (dk_at dksX9_rope_0 19 rfl rfl)
theorem dX9_rope_20 : decode cX9_rope 20 = .ok (.ifCond .lt 8, 3) := dk_155 0 8 (dk_at dksX9_rope_0 20 rfl rfl)
theorem dX9_rope_23 : decode cX9_rope 23 = .ok (.iload_n 3, 1) := dk_29 (dk_at dksX9_rope_0 23 rfl rfl)
theorem dX9_rope_24 : decode cX9_rope 24 = .ok (.iconst 1, 1) := dk_4 (dk_at dksX9_rope_1 0 rfl rfl)
theorem dX9_rope_25 : decode cX9_rope 25 = .ok (.if_icmp .le 9, 3) := dk_164 0 9 (dk_at dksX9_rope_1 1 rfl rfl)
theorem dX9_rope_28 : decode cX9_rope 28 = .ok (.aload_n 0, 1) := dk_42 (dk_at dksX9_rope_1 4 rfl rfl)
theorem dX9_rope_29 : decode cX9_rope 29 = .ok (.iconst 1, 1) := dk_4 (dk_at dksX9_rope_1 5 rfl rfl)
theorem dX9_rope_30 : decode cX9_rope 30 = .ok (.invokevirtual 103, 3) := dk_182 0 103 (dk_at dksX9_rope_1 6 rfl rfl)
theorem dX9_rope_33 : decode cX9_rope 33 = .ok (.ireturn, 1) := dk_172 (dk_at dksX9_rope_1 9 rfl rfl)
theorem dX9_rope_34 : decode cX9_rope 34 = .ok (.aload_n 0, 1) := dk_42 (dk_at dksX9_rope_1 10 rfl rfl)
theorem dX9_rope_35 : decode cX9_rope 35 = .ok (.getfield 24, 3) := dk_180 0 24 (dk_at dksX9_rope_1 11 rfl rfl)
theorem dX9_rope_38 : decode cX9_rope 38 = .ok (.iload_n 1, 1) := dk_27 (dk_at dksX9_rope_1 14 rfl rfl)
theorem dX9_rope_39 : decode cX9_rope 39 = .ok (.iaload, 1) := dk_46 (dk_at dksX9_rope_1 15 rfl rfl)
theorem dX9_rope_40 : decode cX9_rope 40 = .ok (.iconst (-1), 1) := dk_2 (dk_at dksX9_rope_1 16 rfl rfl)
theorem dX9_rope_41 : decode cX9_rope 41 = .ok (.if_icmp .ne 9, 3) := dk_160 0 9 (dk_at dksX9_rope_1 17 rfl rfl)
theorem dX9_rope_44 : decode cX9_rope 44 = .ok (.aload_n 0, 1) := dk_42 (dk_at dksX9_rope_1 20 rfl rfl)
theorem dX9_rope_45 : decode cX9_rope 45 = .ok (.iconst 2, 1) := dk_5 (dk_at dksX9_rope_1 21 rfl rfl)
theorem dX9_rope_46 : decode cX9_rope 46 = .ok (.invokevirtual 103, 3) := dk_182 0 103 (dk_at dksX9_rope_2 0 rfl rfl)
theorem dX9_rope_49 : decode cX9_rope 49 = .ok (.ireturn, 1) := dk_172 (dk_at dksX9_rope_2 3 rfl rfl)
theorem dX9_rope_50 : decode cX9_rope 50 = .ok (.aload_n 0, 1) := dk_42 (dk_at dksX9_rope_2 4 rfl rfl)
theorem dX9_rope_51 : decode cX9_rope 51 = .ok (.getfield 24, 3) := dk_180 0 24 (dk_at dksX9_rope_2 5 rfl rfl)
theorem dX9_rope_54 : decode cX9_rope 54 = .ok (.iload_n 1, 1) := dk_27 (dk_at dksX9_rope_2 8 rfl rfl)
theorem dX9_rope_55 : decode cX9_rope 55 = .ok (.iaload, 1) := dk_46 (dk_at dksX9_rope_2 9 rfl rfl)
theorem dX9_rope_56 : decode cX9_rope 56 = .ok (.iconst 2, 1) := dk_5 (dk_at dksX9_rope_2 10 rfl rfl)
theorem dX9_rope_57 : decode cX9_rope 57 = .ok (.iload_n 2, 1) := dk_28 (dk_at dksX9_rope_2 11 rfl rfl)
theorem dX9_rope_58 : decode cX9_rope 58 = .ok (.imul, 1) := dk_104 (dk_at dksX9_rope_2 12 rfl rfl)
theorem dX9_rope_59 : decode cX9_rope 59 = .ok (.if_icmp .ge 9, 3) := dk_162 0 9 (dk_at dksX9_rope_2 13 rfl rfl)
theorem dX9_rope_62 : decode cX9_rope 62 = .ok (.aload_n 0, 1) := dk_42 (dk_at dksX9_rope_2 16 rfl rfl)
theorem dX9_rope_63 : decode cX9_rope 63 = .ok (.iconst 3, 1) := dk_6 (dk_at dksX9_rope_2 17 rfl rfl)
theorem dX9_rope_64 : decode cX9_rope 64 = .ok (.invokevirtual 103, 3) := dk_182 0 103 (dk_at dksX9_rope_2 18 rfl rfl)
theorem dX9_rope_67 : decode cX9_rope 67 = .ok (.ireturn, 1) := dk_172 (dk_at dksX9_rope_2 21 rfl rfl)
theorem dX9_rope_68 : decode cX9_rope 68 = .ok (.iconst 0, 1) := dk_3 (dk_at dksX9_rope_2 22 rfl rfl)
theorem dX9_rope_69 : decode cX9_rope 69 = .ok (.istore 4, 2) := dk_54 4 (dk_at dksX9_rope_3 0 rfl rfl)
theorem dX9_rope_71 : decode cX9_rope 71 = .ok (.sipush 9999, 3) := dk_17 39 15 (dk_at dksX9_rope_3 2 rfl rfl)
theorem dX9_rope_74 : decode cX9_rope 74 = .ok (.istore 5, 2) := dk_54 5 (dk_at dksX9_rope_3 5 rfl rfl)
theorem dX9_rope_76 : decode cX9_rope 76 = .ok (.iconst 0, 1) := dk_3 (dk_at dksX9_rope_3 7 rfl rfl)
theorem dX9_rope_77 : decode cX9_rope 77 = .ok (.istore 6, 2) := dk_54 6 (dk_at dksX9_rope_3 8 rfl rfl)
theorem dX9_rope_79 : decode cX9_rope 79 = .ok (.iload 6, 2) := dk_21 6 (dk_at dksX9_rope_3 10 rfl rfl)
theorem dX9_rope_81 : decode cX9_rope 81 = .ok (.iload_n 2, 1) := dk_28 (dk_at dksX9_rope_3 12 rfl rfl)
theorem dX9_rope_82 : decode cX9_rope 82 = .ok (.if_icmp .ge 123, 3) := dk_162 0 123 (dk_at dksX9_rope_3 13 rfl rfl)
theorem dX9_rope_85 : decode cX9_rope 85 = .ok (.aload_n 0, 1) := dk_42 (dk_at dksX9_rope_3 16 rfl rfl)
theorem dX9_rope_86 : decode cX9_rope 86 = .ok (.getfield 27, 3) := dk_180 0 27 (dk_at dksX9_rope_3 17 rfl rfl)
theorem dX9_rope_89 : decode cX9_rope 89 = .ok (.bipush 60, 2) := dk_16 60 (dk_at dksX9_rope_3 20 rfl rfl)
theorem dX9_rope_91 : decode cX9_rope 91 = .ok (.iload_n 1, 1) := dk_27 (dk_at dksX9_rope_3 22 rfl rfl)
theorem dX9_rope_92 : decode cX9_rope 92 = .ok (.imul, 1) := dk_104 (dk_at dksX9_rope_3 23 rfl rfl)
theorem dX9_rope_93 : decode cX9_rope 93 = .ok (.iconst 2, 1) := dk_5 (dk_at dksX9_rope_4 0 rfl rfl)
theorem dX9_rope_94 : decode cX9_rope 94 = .ok (.iload 6, 2) := dk_21 6 (dk_at dksX9_rope_4 1 rfl rfl)
theorem dX9_rope_96 : decode cX9_rope 96 = .ok (.imul, 1) := dk_104 (dk_at dksX9_rope_4 3 rfl rfl)
theorem dX9_rope_97 : decode cX9_rope 97 = .ok (.iadd, 1) := dk_96 (dk_at dksX9_rope_4 4 rfl rfl)
theorem dX9_rope_98 : decode cX9_rope 98 = .ok (.laload, 1) := dk_47 (dk_at dksX9_rope_4 5 rfl rfl)
theorem dX9_rope_99 : decode cX9_rope 99 = .ok (.lstore 7, 2) := dk_55 7 (dk_at dksX9_rope_4 6 rfl rfl)
theorem dX9_rope_101 : decode cX9_rope 101 = .ok (.aload_n 0, 1) := dk_42 (dk_at dksX9_rope_4 8 rfl rfl)
theorem dX9_rope_102 : decode cX9_rope 102 = .ok (.getfield 27, 3) := dk_180 0 27 (dk_at dksX9_rope_4 9 rfl rfl)
theorem dX9_rope_105 : decode cX9_rope 105 = .ok (.bipush 60, 2) := dk_16 60 (dk_at dksX9_rope_4 12 rfl rfl)
theorem dX9_rope_107 : decode cX9_rope 107 = .ok (.iload_n 1, 1) := dk_27 (dk_at dksX9_rope_4 14 rfl rfl)
theorem dX9_rope_108 : decode cX9_rope 108 = .ok (.imul, 1) := dk_104 (dk_at dksX9_rope_4 15 rfl rfl)
theorem dX9_rope_109 : decode cX9_rope 109 = .ok (.iconst 2, 1) := dk_5 (dk_at dksX9_rope_4 16 rfl rfl)
theorem dX9_rope_110 : decode cX9_rope 110 = .ok (.iload 6, 2) := dk_21 6 (dk_at dksX9_rope_4 17 rfl rfl)
theorem dX9_rope_112 : decode cX9_rope 112 = .ok (.imul, 1) := dk_104 (dk_at dksX9_rope_4 19 rfl rfl)
theorem dX9_rope_113 : decode cX9_rope 113 = .ok (.iadd, 1) := dk_96 (dk_at dksX9_rope_4 20 rfl rfl)
theorem dX9_rope_114 : decode cX9_rope 114 = .ok (.iconst 1, 1) := dk_4 (dk_at dksX9_rope_4 21 rfl rfl)
theorem dX9_rope_115 : decode cX9_rope 115 = .ok (.iadd, 1) := dk_96 (dk_at dksX9_rope_4 22 rfl rfl)
theorem dX9_rope_116 : decode cX9_rope 116 = .ok (.laload, 1) := dk_47 (dk_at dksX9_rope_4 23 rfl rfl)
theorem dX9_rope_117 : decode cX9_rope 117 = .ok (.lstore 9, 2) := dk_55 9 (dk_at dksX9_rope_5 0 rfl rfl)
theorem dX9_rope_119 : decode cX9_rope 119 = .ok (.lload 7, 2) := dk_22 7 (dk_at dksX9_rope_5 2 rfl rfl)
theorem dX9_rope_121 : decode cX9_rope 121 = .ok (.lconst 0, 1) := dk_9 (dk_at dksX9_rope_5 4 rfl rfl)
theorem dX9_rope_122 : decode cX9_rope 122 = .ok (.ldc2_w 424, 3) := dk_20 1 168 (dk_at dksX9_rope_5 5 rfl rfl)
theorem dX9_rope_125 : decode cX9_rope 125 = .ok (.invokestatic 420, 3) := dk_184 1 164 (dk_at dksX9_rope_5 8 rfl rfl)
theorem dX9_rope_128 : decode cX9_rope 128 = .ok (.ifCond .eq 13, 3) := dk_153 0 13 (dk_at dksX9_rope_5 11 rfl rfl)
theorem dX9_rope_131 : decode cX9_rope 131 = .ok (.lload 9, 2) := dk_22 9 (dk_at dksX9_rope_5 14 rfl rfl)
theorem dX9_rope_133 : decode cX9_rope 133 = .ok (.lconst 0, 1) := dk_9 (dk_at dksX9_rope_5 16 rfl rfl)
theorem dX9_rope_134 : decode cX9_rope 134 = .ok (.lconst 1, 1) := dk_10 (dk_at dksX9_rope_5 17 rfl rfl)
theorem dX9_rope_135 : decode cX9_rope 135 = .ok (.invokestatic 420, 3) := dk_184 1 164 (dk_at dksX9_rope_5 18 rfl rfl)
theorem dX9_rope_138 : decode cX9_rope 138 = .ok (.ifCond .ne 9, 3) := dk_154 0 9 (dk_at dksX9_rope_5 21 rfl rfl)
theorem dX9_rope_141 : decode cX9_rope 141 = .ok (.aload_n 0, 1) := dk_42 (dk_at dksX9_rope_6 0 rfl rfl)
theorem dX9_rope_142 : decode cX9_rope 142 = .ok (.iconst 5, 1) := dk_8 (dk_at dksX9_rope_6 1 rfl rfl)
theorem dX9_rope_143 : decode cX9_rope 143 = .ok (.invokevirtual 103, 3) := dk_182 0 103 (dk_at dksX9_rope_6 2 rfl rfl)
theorem dX9_rope_146 : decode cX9_rope 146 = .ok (.ireturn, 1) := dk_172 (dk_at dksX9_rope_6 5 rfl rfl)
theorem dX9_rope_147 : decode cX9_rope 147 = .ok (.lload 9, 2) := dk_22 9 (dk_at dksX9_rope_6 6 rfl rfl)
theorem dX9_rope_149 : decode cX9_rope 149 = .ok (.lconst 1, 1) := dk_10 (dk_at dksX9_rope_6 8 rfl rfl)
theorem dX9_rope_150 : decode cX9_rope 150 = .ok (.lcmp, 1) := dk_148 (dk_at dksX9_rope_6 9 rfl rfl)
theorem dX9_rope_151 : decode cX9_rope 151 = .ok (.ifCond .ne 25, 3) := dk_154 0 25 (dk_at dksX9_rope_6 10 rfl rfl)
theorem dX9_rope_154 : decode cX9_rope 154 = .ok (.lload 7, 2) := dk_22 7 (dk_at dksX9_rope_6 13 rfl rfl)
theorem dX9_rope_156 : decode cX9_rope 156 = .ok (.iload 5, 2) := dk_21 5 (dk_at dksX9_rope_6 15 rfl rfl)
theorem dX9_rope_158 : decode cX9_rope 158 = .ok (.i2l, 1) := dk_133 (dk_at dksX9_rope_6 17 rfl rfl)
theorem dX9_rope_159 : decode cX9_rope 159 = .ok (.lcmp, 1) := dk_148 (dk_at dksX9_rope_6 18 rfl rfl)
theorem dX9_rope_160 : decode cX9_rope 160 = .ok (.ifCond .ge 9, 3) := dk_156 0 9 (dk_at dksX9_rope_6 19 rfl rfl)
theorem dX9_rope_163 : decode cX9_rope 163 = .ok (.lload 7, 2) := dk_22 7 (dk_at dksX9_rope_6 22 rfl rfl)
theorem dX9_rope_165 : decode cX9_rope 165 = .ok (.l2i, 1) := dk_136 (dk_at dksX9_rope_7 0 rfl rfl)
theorem dX9_rope_166 : decode cX9_rope 166 = .ok (.goto 5, 3) := dk_167 0 5 (dk_at dksX9_rope_7 1 rfl rfl)
theorem dX9_rope_169 : decode cX9_rope 169 = .ok (.iload 5, 2) := dk_21 5 (dk_at dksX9_rope_7 4 rfl rfl)
theorem dX9_rope_171 : decode cX9_rope 171 = .ok (.istore 5, 2) := dk_54 5 (dk_at dksX9_rope_7 6 rfl rfl)
theorem dX9_rope_173 : decode cX9_rope 173 = .ok (.goto 26, 3) := dk_167 0 26 (dk_at dksX9_rope_7 8 rfl rfl)
theorem dX9_rope_176 : decode cX9_rope 176 = .ok (.lload 7, 2) := dk_22 7 (dk_at dksX9_rope_7 11 rfl rfl)
theorem dX9_rope_178 : decode cX9_rope 178 = .ok (.lconst 1, 1) := dk_10 (dk_at dksX9_rope_7 13 rfl rfl)
theorem dX9_rope_179 : decode cX9_rope 179 = .ok (.ladd, 1) := dk_97 (dk_at dksX9_rope_7 14 rfl rfl)
theorem dX9_rope_180 : decode cX9_rope 180 = .ok (.iload 4, 2) := dk_21 4 (dk_at dksX9_rope_7 15 rfl rfl)
theorem dX9_rope_182 : decode cX9_rope 182 = .ok (.i2l, 1) := dk_133 (dk_at dksX9_rope_7 17 rfl rfl)
theorem dX9_rope_183 : decode cX9_rope 183 = .ok (.lcmp, 1) := dk_148 (dk_at dksX9_rope_7 18 rfl rfl)
theorem dX9_rope_184 : decode cX9_rope 184 = .ok (.ifCond .le 11, 3) := dk_158 0 11 (dk_at dksX9_rope_7 19 rfl rfl)
theorem dX9_rope_187 : decode cX9_rope 187 = .ok (.lload 7, 2) := dk_22 7 (dk_at dksX9_rope_7 22 rfl rfl)
theorem dX9_rope_189 : decode cX9_rope 189 = .ok (.l2i, 1) := dk_136 (dk_at dksX9_rope_8 0 rfl rfl)
theorem dX9_rope_190 : decode cX9_rope 190 = .ok (.iconst 1, 1) := dk_4 (dk_at dksX9_rope_8 1 rfl rfl)
theorem dX9_rope_191 : decode cX9_rope 191 = .ok (.iadd, 1) := dk_96 (dk_at dksX9_rope_8 2 rfl rfl)
theorem dX9_rope_192 : decode cX9_rope 192 = .ok (.goto 5, 3) := dk_167 0 5 (dk_at dksX9_rope_8 3 rfl rfl)
theorem dX9_rope_195 : decode cX9_rope 195 = .ok (.iload 4, 2) := dk_21 4 (dk_at dksX9_rope_8 6 rfl rfl)
theorem dX9_rope_197 : decode cX9_rope 197 = .ok (.istore 4, 2) := dk_54 4 (dk_at dksX9_rope_8 8 rfl rfl)
theorem dX9_rope_199 : decode cX9_rope 199 = .ok (.iinc 6 1, 3) := dk_132 6 1 (dk_at dksX9_rope_8 10 rfl rfl)
theorem dX9_rope_202 : decode cX9_rope 202 = .ok (.goto (-123), 3) := dk_167 255 133 (dk_at dksX9_rope_8 13 rfl rfl)
theorem dX9_rope_205 : decode cX9_rope 205 = .ok (.iload 4, 2) := dk_21 4 (dk_at dksX9_rope_8 16 rfl rfl)
theorem dX9_rope_207 : decode cX9_rope 207 = .ok (.iload 5, 2) := dk_21 5 (dk_at dksX9_rope_8 18 rfl rfl)
theorem dX9_rope_209 : decode cX9_rope 209 = .ok (.if_icmp .le 10, 3) := dk_164 0 10 (dk_at dksX9_rope_8 20 rfl rfl)
theorem dX9_rope_212 : decode cX9_rope 212 = .ok (.aload_n 0, 1) := dk_42 (dk_at dksX9_rope_8 23 rfl rfl)
theorem dX9_rope_213 : decode cX9_rope 213 = .ok (.bipush 7, 2) := dk_16 7 (dk_at dksX9_rope_9 0 rfl rfl)
theorem dX9_rope_215 : decode cX9_rope 215 = .ok (.invokevirtual 103, 3) := dk_182 0 103 (dk_at dksX9_rope_9 2 rfl rfl)
theorem dX9_rope_218 : decode cX9_rope 218 = .ok (.ireturn, 1) := dk_172 (dk_at dksX9_rope_9 5 rfl rfl)
theorem dX9_rope_219 : decode cX9_rope 219 = .ok (.aload_n 0, 1) := dk_42 (dk_at dksX9_rope_9 6 rfl rfl)
theorem dX9_rope_220 : decode cX9_rope 220 = .ok (.iload_n 3, 1) := dk_29 (dk_at dksX9_rope_9 7 rfl rfl)
theorem dX9_rope_221 : decode cX9_rope 221 = .ok (.ifCond .ne 8, 3) := dk_154 0 8 (dk_at dksX9_rope_9 8 rfl rfl)
theorem dX9_rope_224 : decode cX9_rope 224 = .ok (.iload 4, 2) := dk_21 4 (dk_at dksX9_rope_9 11 rfl rfl)
theorem dX9_rope_226 : decode cX9_rope 226 = .ok (.goto 5, 3) := dk_167 0 5 (dk_at dksX9_rope_9 13 rfl rfl)
theorem dX9_rope_229 : decode cX9_rope 229 = .ok (.iload 5, 2) := dk_21 5 (dk_at dksX9_rope_9 16 rfl rfl)
theorem dX9_rope_231 : decode cX9_rope 231 = .ok (.invokevirtual 107, 3) := dk_182 0 107 (dk_at dksX9_rope_9 18 rfl rfl)
theorem dX9_rope_234 : decode cX9_rope 234 = .ok (.ireturn, 1) := dk_172 (dk_at dksX9_rope_9 21 rfl rfl)
abbrev cX9_isFrom : ByteArray := prog_21_method_17_code
def yX9_isFrom : MethodName := ⟨RX9, "isFrom", "(JJJ)Z"⟩
def dkwX9_isFrom_0 : List UInt8 := [30, 32, 148, 155, 0, 14, 30, 22, 4, 148, 157, 0, 7, 4, 167, 0, 4, 3, 172]
abbrev dktX9_isFrom_0 : List UInt8 := dkwX9_isFrom_0 ++ []
theorem dksX9_isFrom_0 : cX9_isFrom.data.toList.drop 0 = dktX9_isFrom_0 := by decide +kernel
theorem dX9_isFrom_0 : decode cX9_isFrom 0 = .ok (.lload_n 0, 1) := dk_30 (dk_at dksX9_isFrom_0 0 rfl rfl)
theorem dX9_isFrom_1 : decode cX9_isFrom 1 = .ok (.lload_n 2, 1) := dk_32 (dk_at dksX9_isFrom_0 1 rfl rfl)
theorem dX9_isFrom_2 : decode cX9_isFrom 2 = .ok (.lcmp, 1) := dk_148 (dk_at dksX9_isFrom_0 2 rfl rfl)
theorem dX9_isFrom_3 : decode cX9_isFrom 3 = .ok (.ifCond .lt 14, 3) := dk_155 0 14 (dk_at dksX9_isFrom_0 3 rfl rfl)
theorem dX9_isFrom_6 : decode cX9_isFrom 6 = .ok (.lload_n 0, 1) := dk_30 (dk_at dksX9_isFrom_0 6 rfl rfl)
theorem dX9_isFrom_7 : decode cX9_isFrom 7 = .ok (.lload 4, 2) := dk_22 4 (dk_at dksX9_isFrom_0 7 rfl rfl)
theorem dX9_isFrom_9 : decode cX9_isFrom 9 = .ok (.lcmp, 1) := dk_148 (dk_at dksX9_isFrom_0 9 rfl rfl)
theorem dX9_isFrom_10 : decode cX9_isFrom 10 = .ok (.ifCond .gt 7, 3) := dk_157 0 7 (dk_at dksX9_isFrom_0 10 rfl rfl)
theorem dX9_isFrom_13 : decode cX9_isFrom 13 = .ok (.iconst 1, 1) := dk_4 (dk_at dksX9_isFrom_0 13 rfl rfl)
theorem dX9_isFrom_14 : decode cX9_isFrom 14 = .ok (.goto 4, 3) := dk_167 0 4 (dk_at dksX9_isFrom_0 14 rfl rfl)
theorem dX9_isFrom_17 : decode cX9_isFrom 17 = .ok (.iconst 0, 1) := dk_3 (dk_at dksX9_isFrom_0 17 rfl rfl)
theorem dX9_isFrom_18 : decode cX9_isFrom 18 = .ok (.ireturn, 1) := dk_172 (dk_at dksX9_isFrom_0 18 rfl rfl)
abbrev cX9_run : ByteArray := prog_21_method_128_code
def yX9_run : MethodName := ⟨RX9, "run", "(I)I"⟩
def dkwX9_run_6 : List UInt8 := [180, 0, 7, 5, 46, 181, 0, 94, 42, 42, 180, 1, 196, 182, 0, 107, 172]
abbrev dktX9_run_6 : List UInt8 := dkwX9_run_6 ++ []
def dkwX9_run_5 : List UInt8 := [162, 0, 21, 42, 180, 0, 91, 28, 42, 180, 0, 47, 28, 46, 79, 132, 2, 1, 167, 255, 236, 42, 42]
abbrev dktX9_run_5 : List UInt8 := dkwX9_run_5 ++ dktX9_run_6
def dkwX9_run_4 : List UInt8 := [79, 42, 180, 0, 88, 8, 42, 182, 1, 32, 153, 0, 7, 4, 167, 0, 4, 3, 79, 3, 61, 28, 7]
abbrev dktX9_run_4 : List UInt8 := dkwX9_run_4 ++ dktX9_run_5
def dkwX9_run_3 : List UInt8 := [42, 180, 1, 187, 79, 42, 180, 0, 88, 6, 42, 180, 1, 178, 79, 42, 180, 0, 88, 7, 42, 180, 1, 181]
abbrev dktX9_run_3 : List UInt8 := dkwX9_run_3 ++ dktX9_run_4
def dkwX9_run_2 : List UInt8 := [180, 0, 88, 3, 42, 180, 1, 190, 79, 42, 180, 0, 88, 4, 42, 180, 1, 199, 79, 42, 180, 0, 88, 5]
abbrev dktX9_run_2 : List UInt8 := dkwX9_run_2 ++ dktX9_run_3
def dkwX9_run_1 : List UInt8 := [180, 0, 7, 7, 46, 2, 160, 0, 10, 42, 16, 6, 182, 0, 103, 172, 42, 27, 182, 1, 211, 42]
abbrev dktX9_run_1 : List UInt8 := dkwX9_run_1 ++ dktX9_run_2
def dkwX9_run_0 : List UInt8 := [27, 2, 159, 0, 21, 27, 133, 9, 20, 1, 168, 184, 1, 164, 154, 0, 9, 42, 4, 182, 0, 103, 172, 42]
abbrev dktX9_run_0 : List UInt8 := dkwX9_run_0 ++ dktX9_run_1
theorem dksX9_run_0 : cX9_run.data.toList.drop 0 = dktX9_run_0 := by decide +kernel
theorem dksX9_run_1 : cX9_run.data.toList.drop 24 = dktX9_run_1 := dk_seg dksX9_run_0 24 rfl rfl
theorem dksX9_run_2 : cX9_run.data.toList.drop 46 = dktX9_run_2 := dk_seg dksX9_run_1 22 rfl rfl
theorem dksX9_run_3 : cX9_run.data.toList.drop 70 = dktX9_run_3 := dk_seg dksX9_run_2 24 rfl rfl
theorem dksX9_run_4 : cX9_run.data.toList.drop 94 = dktX9_run_4 := dk_seg dksX9_run_3 24 rfl rfl
theorem dksX9_run_5 : cX9_run.data.toList.drop 117 = dktX9_run_5 := dk_seg dksX9_run_4 23 rfl rfl
theorem dksX9_run_6 : cX9_run.data.toList.drop 140 = dktX9_run_6 := dk_seg dksX9_run_5 23 rfl rfl
theorem dX9_run_0 : decode cX9_run 0 = .ok (.iload_n 1, 1) := dk_27 (dk_at dksX9_run_0 0 rfl rfl)
theorem dX9_run_1 : decode cX9_run 1 = .ok (.iconst (-1), 1) := dk_2 (dk_at dksX9_run_0 1 rfl rfl)
theorem dX9_run_2 : decode cX9_run 2 = .ok (.if_icmp .eq 21, 3) := dk_159 0 21 (dk_at dksX9_run_0 2 rfl rfl)
theorem dX9_run_5 : decode cX9_run 5 = .ok (.iload_n 1, 1) := dk_27 (dk_at dksX9_run_0 5 rfl rfl)
theorem dX9_run_6 : decode cX9_run 6 = .ok (.i2l, 1) := dk_133 (dk_at dksX9_run_0 6 rfl rfl)
theorem dX9_run_7 : decode cX9_run 7 = .ok (.lconst 0, 1) := dk_9 (dk_at dksX9_run_0 7 rfl rfl)
theorem dX9_run_8 : decode cX9_run 8 = .ok (.ldc2_w 424, 3) := dk_20 1 168 (dk_at dksX9_run_0 8 rfl rfl)
theorem dX9_run_11 : decode cX9_run 11 = .ok (.invokestatic 420, 3) := dk_184 1 164 (dk_at dksX9_run_0 11 rfl rfl)
theorem dX9_run_14 : decode cX9_run 14 = .ok (.ifCond .ne 9, 3) := dk_154 0 9 (dk_at dksX9_run_0 14 rfl rfl)
theorem dX9_run_17 : decode cX9_run 17 = .ok (.aload_n 0, 1) := dk_42 (dk_at dksX9_run_0 17 rfl rfl)
theorem dX9_run_18 : decode cX9_run 18 = .ok (.iconst 1, 1) := dk_4 (dk_at dksX9_run_0 18 rfl rfl)
theorem dX9_run_19 : decode cX9_run 19 = .ok (.invokevirtual 103, 3) := dk_182 0 103 (dk_at dksX9_run_0 19 rfl rfl)
theorem dX9_run_22 : decode cX9_run 22 = .ok (.ireturn, 1) := dk_172 (dk_at dksX9_run_0 22 rfl rfl)
theorem dX9_run_23 : decode cX9_run 23 = .ok (.aload_n 0, 1) := dk_42 (dk_at dksX9_run_0 23 rfl rfl)
theorem dX9_run_24 : decode cX9_run 24 = .ok (.getfield 7, 3) := dk_180 0 7 (dk_at dksX9_run_1 0 rfl rfl)
theorem dX9_run_27 : decode cX9_run 27 = .ok (.iconst 4, 1) := dk_7 (dk_at dksX9_run_1 3 rfl rfl)
theorem dX9_run_28 : decode cX9_run 28 = .ok (.iaload, 1) := dk_46 (dk_at dksX9_run_1 4 rfl rfl)
theorem dX9_run_29 : decode cX9_run 29 = .ok (.iconst (-1), 1) := dk_2 (dk_at dksX9_run_1 5 rfl rfl)
theorem dX9_run_30 : decode cX9_run 30 = .ok (.if_icmp .ne 10, 3) := dk_160 0 10 (dk_at dksX9_run_1 6 rfl rfl)
theorem dX9_run_33 : decode cX9_run 33 = .ok (.aload_n 0, 1) := dk_42 (dk_at dksX9_run_1 9 rfl rfl)
theorem dX9_run_34 : decode cX9_run 34 = .ok (.bipush 6, 2) := dk_16 6 (dk_at dksX9_run_1 10 rfl rfl)
theorem dX9_run_36 : decode cX9_run 36 = .ok (.invokevirtual 103, 3) := dk_182 0 103 (dk_at dksX9_run_1 12 rfl rfl)
theorem dX9_run_39 : decode cX9_run 39 = .ok (.ireturn, 1) := dk_172 (dk_at dksX9_run_1 15 rfl rfl)
theorem dX9_run_40 : decode cX9_run 40 = .ok (.aload_n 0, 1) := dk_42 (dk_at dksX9_run_1 16 rfl rfl)
theorem dX9_run_41 : decode cX9_run 41 = .ok (.iload_n 1, 1) := dk_27 (dk_at dksX9_run_1 17 rfl rfl)
theorem dX9_run_42 : decode cX9_run 42 = .ok (.invokevirtual 467, 3) := dk_182 1 211 (dk_at dksX9_run_1 18 rfl rfl)
theorem dX9_run_45 : decode cX9_run 45 = .ok (.aload_n 0, 1) := dk_42 (dk_at dksX9_run_1 21 rfl rfl)
theorem dX9_run_46 : decode cX9_run 46 = .ok (.getfield 88, 3) := dk_180 0 88 (dk_at dksX9_run_2 0 rfl rfl)
theorem dX9_run_49 : decode cX9_run 49 = .ok (.iconst 0, 1) := dk_3 (dk_at dksX9_run_2 3 rfl rfl)
theorem dX9_run_50 : decode cX9_run 50 = .ok (.aload_n 0, 1) := dk_42 (dk_at dksX9_run_2 4 rfl rfl)
theorem dX9_run_51 : decode cX9_run 51 = .ok (.getfield 446, 3) := dk_180 1 190 (dk_at dksX9_run_2 5 rfl rfl)
theorem dX9_run_54 : decode cX9_run 54 = .ok (.iastore, 1) := dk_79 (dk_at dksX9_run_2 8 rfl rfl)
theorem dX9_run_55 : decode cX9_run 55 = .ok (.aload_n 0, 1) := dk_42 (dk_at dksX9_run_2 9 rfl rfl)
theorem dX9_run_56 : decode cX9_run 56 = .ok (.getfield 88, 3) := dk_180 0 88 (dk_at dksX9_run_2 10 rfl rfl)
theorem dX9_run_59 : decode cX9_run 59 = .ok (.iconst 1, 1) := dk_4 (dk_at dksX9_run_2 13 rfl rfl)
theorem dX9_run_60 : decode cX9_run 60 = .ok (.aload_n 0, 1) := dk_42 (dk_at dksX9_run_2 14 rfl rfl)
theorem dX9_run_61 : decode cX9_run 61 = .ok (.getfield 455, 3) := dk_180 1 199 (dk_at dksX9_run_2 15 rfl rfl)
theorem dX9_run_64 : decode cX9_run 64 = .ok (.iastore, 1) := dk_79 (dk_at dksX9_run_2 18 rfl rfl)
theorem dX9_run_65 : decode cX9_run 65 = .ok (.aload_n 0, 1) := dk_42 (dk_at dksX9_run_2 19 rfl rfl)
theorem dX9_run_66 : decode cX9_run 66 = .ok (.getfield 88, 3) := dk_180 0 88 (dk_at dksX9_run_2 20 rfl rfl)
theorem dX9_run_69 : decode cX9_run 69 = .ok (.iconst 2, 1) := dk_5 (dk_at dksX9_run_2 23 rfl rfl)
theorem dX9_run_70 : decode cX9_run 70 = .ok (.aload_n 0, 1) := dk_42 (dk_at dksX9_run_3 0 rfl rfl)
theorem dX9_run_71 : decode cX9_run 71 = .ok (.getfield 443, 3) := dk_180 1 187 (dk_at dksX9_run_3 1 rfl rfl)
theorem dX9_run_74 : decode cX9_run 74 = .ok (.iastore, 1) := dk_79 (dk_at dksX9_run_3 4 rfl rfl)
theorem dX9_run_75 : decode cX9_run 75 = .ok (.aload_n 0, 1) := dk_42 (dk_at dksX9_run_3 5 rfl rfl)
theorem dX9_run_76 : decode cX9_run 76 = .ok (.getfield 88, 3) := dk_180 0 88 (dk_at dksX9_run_3 6 rfl rfl)
theorem dX9_run_79 : decode cX9_run 79 = .ok (.iconst 3, 1) := dk_6 (dk_at dksX9_run_3 9 rfl rfl)
theorem dX9_run_80 : decode cX9_run 80 = .ok (.aload_n 0, 1) := dk_42 (dk_at dksX9_run_3 10 rfl rfl)
theorem dX9_run_81 : decode cX9_run 81 = .ok (.getfield 434, 3) := dk_180 1 178 (dk_at dksX9_run_3 11 rfl rfl)
theorem dX9_run_84 : decode cX9_run 84 = .ok (.iastore, 1) := dk_79 (dk_at dksX9_run_3 14 rfl rfl)
theorem dX9_run_85 : decode cX9_run 85 = .ok (.aload_n 0, 1) := dk_42 (dk_at dksX9_run_3 15 rfl rfl)
theorem dX9_run_86 : decode cX9_run 86 = .ok (.getfield 88, 3) := dk_180 0 88 (dk_at dksX9_run_3 16 rfl rfl)
theorem dX9_run_89 : decode cX9_run 89 = .ok (.iconst 4, 1) := dk_7 (dk_at dksX9_run_3 19 rfl rfl)
theorem dX9_run_90 : decode cX9_run 90 = .ok (.aload_n 0, 1) := dk_42 (dk_at dksX9_run_3 20 rfl rfl)
theorem dX9_run_91 : decode cX9_run 91 = .ok (.getfield 437, 3) := dk_180 1 181 (dk_at dksX9_run_3 21 rfl rfl)
theorem dX9_run_94 : decode cX9_run 94 = .ok (.iastore, 1) := dk_79 (dk_at dksX9_run_4 0 rfl rfl)
theorem dX9_run_95 : decode cX9_run 95 = .ok (.aload_n 0, 1) := dk_42 (dk_at dksX9_run_4 1 rfl rfl)
theorem dX9_run_96 : decode cX9_run 96 = .ok (.getfield 88, 3) := dk_180 0 88 (dk_at dksX9_run_4 2 rfl rfl)
theorem dX9_run_99 : decode cX9_run 99 = .ok (.iconst 5, 1) := dk_8 (dk_at dksX9_run_4 5 rfl rfl)
theorem dX9_run_100 : decode cX9_run 100 = .ok (.aload_n 0, 1) := dk_42 (dk_at dksX9_run_4 6 rfl rfl)
theorem dX9_run_101 : decode cX9_run 101 = .ok (.invokevirtual 288, 3) := dk_182 1 32 (dk_at dksX9_run_4 7 rfl rfl)
theorem dX9_run_104 : decode cX9_run 104 = .ok (.ifCond .eq 7, 3) := dk_153 0 7 (dk_at dksX9_run_4 10 rfl rfl)
theorem dX9_run_107 : decode cX9_run 107 = .ok (.iconst 1, 1) := dk_4 (dk_at dksX9_run_4 13 rfl rfl)
theorem dX9_run_108 : decode cX9_run 108 = .ok (.goto 4, 3) := dk_167 0 4 (dk_at dksX9_run_4 14 rfl rfl)
theorem dX9_run_111 : decode cX9_run 111 = .ok (.iconst 0, 1) := dk_3 (dk_at dksX9_run_4 17 rfl rfl)
theorem dX9_run_112 : decode cX9_run 112 = .ok (.iastore, 1) := dk_79 (dk_at dksX9_run_4 18 rfl rfl)
theorem dX9_run_113 : decode cX9_run 113 = .ok (.iconst 0, 1) := dk_3 (dk_at dksX9_run_4 19 rfl rfl)
theorem dX9_run_114 : decode cX9_run 114 = .ok (.istore_n 2, 1) := dk_61 (dk_at dksX9_run_4 20 rfl rfl)
theorem dX9_run_115 : decode cX9_run 115 = .ok (.iload_n 2, 1) := dk_28 (dk_at dksX9_run_4 21 rfl rfl)
theorem dX9_run_116 : decode cX9_run 116 = .ok (.iconst 4, 1) := dk_7 (dk_at dksX9_run_4 22 rfl rfl)
theorem dX9_run_117 : decode cX9_run 117 = .ok (.if_icmp .ge 21, 3) := dk_162 0 21 (dk_at dksX9_run_5 0 rfl rfl)
theorem dX9_run_120 : decode cX9_run 120 = .ok (.aload_n 0, 1) := dk_42 (dk_at dksX9_run_5 3 rfl rfl)
theorem dX9_run_121 : decode cX9_run 121 = .ok (.getfield 91, 3) := dk_180 0 91 (dk_at dksX9_run_5 4 rfl rfl)
theorem dX9_run_124 : decode cX9_run 124 = .ok (.iload_n 2, 1) := dk_28 (dk_at dksX9_run_5 7 rfl rfl)
theorem dX9_run_125 : decode cX9_run 125 = .ok (.aload_n 0, 1) := dk_42 (dk_at dksX9_run_5 8 rfl rfl)
theorem dX9_run_126 : decode cX9_run 126 = .ok (.getfield 47, 3) := dk_180 0 47 (dk_at dksX9_run_5 9 rfl rfl)
theorem dX9_run_129 : decode cX9_run 129 = .ok (.iload_n 2, 1) := dk_28 (dk_at dksX9_run_5 12 rfl rfl)
theorem dX9_run_130 : decode cX9_run 130 = .ok (.iaload, 1) := dk_46 (dk_at dksX9_run_5 13 rfl rfl)
theorem dX9_run_131 : decode cX9_run 131 = .ok (.iastore, 1) := dk_79 (dk_at dksX9_run_5 14 rfl rfl)
theorem dX9_run_132 : decode cX9_run 132 = .ok (.iinc 2 1, 3) := dk_132 2 1 (dk_at dksX9_run_5 15 rfl rfl)
theorem dX9_run_135 : decode cX9_run 135 = .ok (.goto (-20), 3) := dk_167 255 236 (dk_at dksX9_run_5 18 rfl rfl)
theorem dX9_run_138 : decode cX9_run 138 = .ok (.aload_n 0, 1) := dk_42 (dk_at dksX9_run_5 21 rfl rfl)
theorem dX9_run_139 : decode cX9_run 139 = .ok (.aload_n 0, 1) := dk_42 (dk_at dksX9_run_5 22 rfl rfl)
theorem dX9_run_140 : decode cX9_run 140 = .ok (.getfield 7, 3) := dk_180 0 7 (dk_at dksX9_run_6 0 rfl rfl)
theorem dX9_run_143 : decode cX9_run 143 = .ok (.iconst 2, 1) := dk_5 (dk_at dksX9_run_6 3 rfl rfl)
theorem dX9_run_144 : decode cX9_run 144 = .ok (.iaload, 1) := dk_46 (dk_at dksX9_run_6 4 rfl rfl)
theorem dX9_run_145 : decode cX9_run 145 = .ok (.putfield 94, 3) := dk_181 0 94 (dk_at dksX9_run_6 5 rfl rfl)
theorem dX9_run_148 : decode cX9_run 148 = .ok (.aload_n 0, 1) := dk_42 (dk_at dksX9_run_6 8 rfl rfl)
theorem dX9_run_149 : decode cX9_run 149 = .ok (.aload_n 0, 1) := dk_42 (dk_at dksX9_run_6 9 rfl rfl)
theorem dX9_run_150 : decode cX9_run 150 = .ok (.getfield 452, 3) := dk_180 1 196 (dk_at dksX9_run_6 10 rfl rfl)
theorem dX9_run_153 : decode cX9_run 153 = .ok (.invokevirtual 107, 3) := dk_182 0 107 (dk_at dksX9_run_6 13 rfl rfl)
theorem dX9_run_156 : decode cX9_run 156 = .ok (.ireturn, 1) := dk_172 (dk_at dksX9_run_6 16 rfl rfl)
abbrev cX9_runs : ByteArray := prog_21_method_127_code
def yX9_runs : MethodName := ⟨RX9, "runs", "(I)V"⟩
def dkwX9_runs_9 : List UInt8 := [46, 4, 96, 167, 0, 6, 28, 4, 96, 182, 1, 208, 61, 167, 255, 84, 177]
abbrev dktX9_runs_9 : List UInt8 := dkwX9_runs_9 ++ []
def dkwX9_runs_8 : List UInt8 := [42, 21, 4, 17, 9, 96, 161, 0, 24, 42, 29, 182, 1, 205, 154, 0, 16, 42, 180, 0, 7, 29, 7, 96]
abbrev dktX9_runs_8 : List UInt8 := dkwX9_runs_8 ++ dktX9_runs_9
def dkwX9_runs_7 : List UInt8 := [177, 21, 4, 16, 27, 160, 0, 19, 42, 180, 0, 85, 28, 42, 180, 0, 7, 29, 4, 96, 46, 4, 100, 79]
abbrev dktX9_runs_7 : List UInt8 := dkwX9_runs_7 ++ dktX9_runs_8
def dkwX9_runs_6 : List UInt8 := [167, 0, 4, 4, 96, 181, 1, 199, 42, 180, 1, 190, 21, 5, 164, 0, 11, 42, 182, 1, 32, 153, 0, 4]
abbrev dktX9_runs_6 : List UInt8 := dkwX9_runs_6 ++ dktX9_runs_7
def dkwX9_runs_5 : List UInt8 := [163, 0, 48, 42, 180, 1, 190, 54, 5, 42, 89, 180, 1, 199, 42, 29, 182, 1, 202, 153, 0, 7, 3]
abbrev dktX9_runs_5 : List UInt8 := dkwX9_runs_5 ++ dktX9_runs_6
def dkwX9_runs_4 : List UInt8 := [96, 181, 1, 196, 21, 4, 16, 29, 160, 0, 4, 177, 21, 4, 16, 19, 161, 0, 55, 21, 4, 16, 23]
abbrev dktX9_runs_4 : List UInt8 := dkwX9_runs_4 ++ dktX9_runs_5
def dkwX9_runs_3 : List UInt8 := [162, 0, 158, 16, 120, 8, 28, 104, 96, 62, 42, 180, 0, 7, 29, 46, 54, 4, 42, 89, 180, 1, 196, 4]
abbrev dktX9_runs_3 : List UInt8 := dkwX9_runs_3 ++ dktX9_runs_4
def dkwX9_runs_2 : List UInt8 := [42, 3, 181, 1, 181, 3, 61, 28, 42, 180, 0, 7, 7, 46, 162, 0, 168, 42, 180, 1, 196, 17, 1, 144]
abbrev dktX9_runs_2 : List UInt8 := dkwX9_runs_2 ++ dktX9_runs_3
def dkwX9_runs_1 : List UInt8 := [3, 181, 1, 196, 42, 3, 181, 1, 190, 42, 3, 181, 1, 199, 42, 3, 181, 1, 187, 42, 3, 181, 1, 178]
abbrev dktX9_runs_1 : List UInt8 := dkwX9_runs_1 ++ dktX9_runs_2
def dkwX9_runs_0 : List UInt8 := [42, 182, 1, 29, 42, 27, 2, 159, 0, 7, 4, 167, 0, 4, 3, 181, 1, 170, 42, 27, 181, 1, 174, 42]
abbrev dktX9_runs_0 : List UInt8 := dkwX9_runs_0 ++ dktX9_runs_1
theorem dksX9_runs_0 : cX9_runs.data.toList.drop 0 = dktX9_runs_0 := by decide +kernel
theorem dksX9_runs_1 : cX9_runs.data.toList.drop 24 = dktX9_runs_1 := dk_seg dksX9_runs_0 24 rfl rfl
theorem dksX9_runs_2 : cX9_runs.data.toList.drop 48 = dktX9_runs_2 := dk_seg dksX9_runs_1 24 rfl rfl
theorem dksX9_runs_3 : cX9_runs.data.toList.drop 72 = dktX9_runs_3 := dk_seg dksX9_runs_2 24 rfl rfl
theorem dksX9_runs_4 : cX9_runs.data.toList.drop 96 = dktX9_runs_4 := dk_seg dksX9_runs_3 24 rfl rfl
theorem dksX9_runs_5 : cX9_runs.data.toList.drop 119 = dktX9_runs_5 := dk_seg dksX9_runs_4 23 rfl rfl
theorem dksX9_runs_6 : cX9_runs.data.toList.drop 142 = dktX9_runs_6 := dk_seg dksX9_runs_5 23 rfl rfl
theorem dksX9_runs_7 : cX9_runs.data.toList.drop 166 = dktX9_runs_7 := dk_seg dksX9_runs_6 24 rfl rfl
theorem dksX9_runs_8 : cX9_runs.data.toList.drop 190 = dktX9_runs_8 := dk_seg dksX9_runs_7 24 rfl rfl
theorem dksX9_runs_9 : cX9_runs.data.toList.drop 214 = dktX9_runs_9 := dk_seg dksX9_runs_8 24 rfl rfl
theorem dX9_runs_0 : decode cX9_runs 0 = .ok (.aload_n 0, 1) := dk_42 (dk_at dksX9_runs_0 0 rfl rfl)
theorem dX9_runs_1 : decode cX9_runs 1 = .ok (.invokevirtual 285, 3) := dk_182 1 29 (dk_at dksX9_runs_0 1 rfl rfl)
theorem dX9_runs_4 : decode cX9_runs 4 = .ok (.aload_n 0, 1) := dk_42 (dk_at dksX9_runs_0 4 rfl rfl)
theorem dX9_runs_5 : decode cX9_runs 5 = .ok (.iload_n 1, 1) := dk_27 (dk_at dksX9_runs_0 5 rfl rfl)
theorem dX9_runs_6 : decode cX9_runs 6 = .ok (.iconst (-1), 1) := dk_2 (dk_at dksX9_runs_0 6 rfl rfl)
theorem dX9_runs_7 : decode cX9_runs 7 = .ok (.if_icmp .eq 7, 3) := dk_159 0 7 (dk_at dksX9_runs_0 7 rfl rfl)
theorem dX9_runs_10 : decode cX9_runs 10 = .ok (.iconst 1, 1) := dk_4 (dk_at dksX9_runs_0 10 rfl rfl)
theorem dX9_runs_11 : decode cX9_runs 11 = .ok (.goto 4, 3) := dk_167 0 4 (dk_at dksX9_runs_0 11 rfl rfl)
theorem dX9_runs_14 : decode cX9_runs 14 = .ok (.iconst 0, 1) := dk_3 (dk_at dksX9_runs_0 14 rfl rfl)
theorem dX9_runs_15 : decode cX9_runs 15 = .ok (.putfield 426, 3) := dk_181 1 170 (dk_at dksX9_runs_0 15 rfl rfl)
theorem dX9_runs_18 : decode cX9_runs 18 = .ok (.aload_n 0, 1) := dk_42 (dk_at dksX9_runs_0 18 rfl rfl)
theorem dX9_runs_19 : decode cX9_runs 19 = .ok (.iload_n 1, 1) := dk_27 (dk_at dksX9_runs_0 19 rfl rfl)
theorem dX9_runs_20 : decode cX9_runs 20 = .ok (.putfield 430, 3) := dk_181 1 174 (dk_at dksX9_runs_0 20 rfl rfl)
theorem dX9_runs_23 : decode cX9_runs 23 = .ok (.aload_n 0, 1) := dk_42 (dk_at dksX9_runs_0 23 rfl rfl)
theorem dX9_runs_24 : decode cX9_runs 24 = .ok (.iconst 0, 1) := dk_3 (dk_at dksX9_runs_1 0 rfl rfl)
theorem dX9_runs_25 : decode cX9_runs 25 = .ok (.putfield 452, 3) := dk_181 1 196 (dk_at dksX9_runs_1 1 rfl rfl)
theorem dX9_runs_28 : decode cX9_runs 28 = .ok (.aload_n 0, 1) := dk_42 (dk_at dksX9_runs_1 4 rfl rfl)
theorem dX9_runs_29 : decode cX9_runs 29 = .ok (.iconst 0, 1) := dk_3 (dk_at dksX9_runs_1 5 rfl rfl)
theorem dX9_runs_30 : decode cX9_runs 30 = .ok (.putfield 446, 3) := dk_181 1 190 (dk_at dksX9_runs_1 6 rfl rfl)
theorem dX9_runs_33 : decode cX9_runs 33 = .ok (.aload_n 0, 1) := dk_42 (dk_at dksX9_runs_1 9 rfl rfl)
theorem dX9_runs_34 : decode cX9_runs 34 = .ok (.iconst 0, 1) := dk_3 (dk_at dksX9_runs_1 10 rfl rfl)
theorem dX9_runs_35 : decode cX9_runs 35 = .ok (.putfield 455, 3) := dk_181 1 199 (dk_at dksX9_runs_1 11 rfl rfl)
theorem dX9_runs_38 : decode cX9_runs 38 = .ok (.aload_n 0, 1) := dk_42 (dk_at dksX9_runs_1 14 rfl rfl)
theorem dX9_runs_39 : decode cX9_runs 39 = .ok (.iconst 0, 1) := dk_3 (dk_at dksX9_runs_1 15 rfl rfl)
theorem dX9_runs_40 : decode cX9_runs 40 = .ok (.putfield 443, 3) := dk_181 1 187 (dk_at dksX9_runs_1 16 rfl rfl)
theorem dX9_runs_43 : decode cX9_runs 43 = .ok (.aload_n 0, 1) := dk_42 (dk_at dksX9_runs_1 19 rfl rfl)
theorem dX9_runs_44 : decode cX9_runs 44 = .ok (.iconst 0, 1) := dk_3 (dk_at dksX9_runs_1 20 rfl rfl)
theorem dX9_runs_45 : decode cX9_runs 45 = .ok (.putfield 434, 3) := dk_181 1 178 (dk_at dksX9_runs_1 21 rfl rfl)
theorem dX9_runs_48 : decode cX9_runs 48 = .ok (.aload_n 0, 1) := dk_42 (dk_at dksX9_runs_2 0 rfl rfl)
theorem dX9_runs_49 : decode cX9_runs 49 = .ok (.iconst 0, 1) := dk_3 (dk_at dksX9_runs_2 1 rfl rfl)
theorem dX9_runs_50 : decode cX9_runs 50 = .ok (.putfield 437, 3) := dk_181 1 181 (dk_at dksX9_runs_2 2 rfl rfl)
theorem dX9_runs_53 : decode cX9_runs 53 = .ok (.iconst 0, 1) := dk_3 (dk_at dksX9_runs_2 5 rfl rfl)
theorem dX9_runs_54 : decode cX9_runs 54 = .ok (.istore_n 2, 1) := dk_61 (dk_at dksX9_runs_2 6 rfl rfl)
theorem dX9_runs_55 : decode cX9_runs 55 = .ok (.iload_n 2, 1) := dk_28 (dk_at dksX9_runs_2 7 rfl rfl)
theorem dX9_runs_56 : decode cX9_runs 56 = .ok (.aload_n 0, 1) := dk_42 (dk_at dksX9_runs_2 8 rfl rfl)
theorem dX9_runs_57 : decode cX9_runs 57 = .ok (.getfield 7, 3) := dk_180 0 7 (dk_at dksX9_runs_2 9 rfl rfl)
theorem dX9_runs_60 : decode cX9_runs 60 = .ok (.iconst 4, 1) := dk_7 (dk_at dksX9_runs_2 12 rfl rfl)
theorem dX9_runs_61 : decode cX9_runs 61 = .ok (.iaload, 1) := dk_46 (dk_at dksX9_runs_2 13 rfl rfl)
theorem dX9_runs_62 : decode cX9_runs 62 = .ok (.if_icmp .ge 168, 3) := dk_162 0 168 (dk_at dksX9_runs_2 14 rfl rfl)
theorem dX9_runs_65 : decode cX9_runs 65 = .ok (.aload_n 0, 1) := dk_42 (dk_at dksX9_runs_2 17 rfl rfl)
theorem dX9_runs_66 : decode cX9_runs 66 = .ok (.getfield 452, 3) := dk_180 1 196 (dk_at dksX9_runs_2 18 rfl rfl)
theorem dX9_runs_69 : decode cX9_runs 69 = .ok (.sipush 400, 3) := dk_17 1 144 (dk_at dksX9_runs_2 21 rfl rfl)
theorem dX9_runs_72 : decode cX9_runs 72 = .ok (.if_icmp .ge 158, 3) := dk_162 0 158 (dk_at dksX9_runs_3 0 rfl rfl)
theorem dX9_runs_75 : decode cX9_runs 75 = .ok (.bipush 120, 2) := dk_16 120 (dk_at dksX9_runs_3 3 rfl rfl)
theorem dX9_runs_77 : decode cX9_runs 77 = .ok (.iconst 5, 1) := dk_8 (dk_at dksX9_runs_3 5 rfl rfl)
theorem dX9_runs_78 : decode cX9_runs 78 = .ok (.iload_n 2, 1) := dk_28 (dk_at dksX9_runs_3 6 rfl rfl)
theorem dX9_runs_79 : decode cX9_runs 79 = .ok (.imul, 1) := dk_104 (dk_at dksX9_runs_3 7 rfl rfl)
theorem dX9_runs_80 : decode cX9_runs 80 = .ok (.iadd, 1) := dk_96 (dk_at dksX9_runs_3 8 rfl rfl)
theorem dX9_runs_81 : decode cX9_runs 81 = .ok (.istore_n 3, 1) := dk_62 (dk_at dksX9_runs_3 9 rfl rfl)
theorem dX9_runs_82 : decode cX9_runs 82 = .ok (.aload_n 0, 1) := dk_42 (dk_at dksX9_runs_3 10 rfl rfl)
theorem dX9_runs_83 : decode cX9_runs 83 = .ok (.getfield 7, 3) := dk_180 0 7 (dk_at dksX9_runs_3 11 rfl rfl)
theorem dX9_runs_86 : decode cX9_runs 86 = .ok (.iload_n 3, 1) := dk_29 (dk_at dksX9_runs_3 14 rfl rfl)
theorem dX9_runs_87 : decode cX9_runs 87 = .ok (.iaload, 1) := dk_46 (dk_at dksX9_runs_3 15 rfl rfl)
theorem dX9_runs_88 : decode cX9_runs 88 = .ok (.istore 4, 2) := dk_54 4 (dk_at dksX9_runs_3 16 rfl rfl)
theorem dX9_runs_90 : decode cX9_runs 90 = .ok (.aload_n 0, 1) := dk_42 (dk_at dksX9_runs_3 18 rfl rfl)
theorem dX9_runs_91 : decode cX9_runs 91 = .ok (.dup, 1) := dk_89 (dk_at dksX9_runs_3 19 rfl rfl)
theorem dX9_runs_92 : decode cX9_runs 92 = .ok (.getfield 452, 3) := dk_180 1 196 (dk_at dksX9_runs_3 20 rfl rfl)
theorem dX9_runs_95 : decode cX9_runs 95 = .ok (.iconst 1, 1) := dk_4 (dk_at dksX9_runs_3 23 rfl rfl)
theorem dX9_runs_96 : decode cX9_runs 96 = .ok (.iadd, 1) := dk_96 (dk_at dksX9_runs_4 0 rfl rfl)
theorem dX9_runs_97 : decode cX9_runs 97 = .ok (.putfield 452, 3) := dk_181 1 196 (dk_at dksX9_runs_4 1 rfl rfl)
theorem dX9_runs_100 : decode cX9_runs 100 = .ok (.iload 4, 2) := dk_21 4 (dk_at dksX9_runs_4 4 rfl rfl)
theorem dX9_runs_102 : decode cX9_runs 102 = .ok (.bipush 29, 2) := dk_16 29 (dk_at dksX9_runs_4 6 rfl rfl)
theorem dX9_runs_104 : decode cX9_runs 104 = .ok (.if_icmp .ne 4, 3) := dk_160 0 4 (dk_at dksX9_runs_4 8 rfl rfl)
theorem dX9_runs_107 : decode cX9_runs 107 = .ok (.return_, 1) := dk_177 (dk_at dksX9_runs_4 11 rfl rfl)
theorem dX9_runs_108 : decode cX9_runs 108 = .ok (.iload 4, 2) := dk_21 4 (dk_at dksX9_runs_4 12 rfl rfl)
theorem dX9_runs_110 : decode cX9_runs 110 = .ok (.bipush 19, 2) := dk_16 19 (dk_at dksX9_runs_4 14 rfl rfl)
theorem dX9_runs_112 : decode cX9_runs 112 = .ok (.if_icmp .lt 55, 3) := dk_161 0 55 (dk_at dksX9_runs_4 16 rfl rfl)
theorem dX9_runs_115 : decode cX9_runs 115 = .ok (.iload 4, 2) := dk_21 4 (dk_at dksX9_runs_4 19 rfl rfl)
theorem dX9_runs_117 : decode cX9_runs 117 = .ok (.bipush 23, 2) := dk_16 23 (dk_at dksX9_runs_4 21 rfl rfl)
theorem dX9_runs_119 : decode cX9_runs 119 = .ok (.if_icmp .gt 48, 3) := dk_163 0 48 (dk_at dksX9_runs_5 0 rfl rfl)
theorem dX9_runs_122 : decode cX9_runs 122 = .ok (.aload_n 0, 1) := dk_42 (dk_at dksX9_runs_5 3 rfl rfl)
theorem dX9_runs_123 : decode cX9_runs 123 = .ok (.getfield 446, 3) := dk_180 1 190 (dk_at dksX9_runs_5 4 rfl rfl)
theorem dX9_runs_126 : decode cX9_runs 126 = .ok (.istore 5, 2) := dk_54 5 (dk_at dksX9_runs_5 7 rfl rfl)
theorem dX9_runs_128 : decode cX9_runs 128 = .ok (.aload_n 0, 1) := dk_42 (dk_at dksX9_runs_5 9 rfl rfl)
theorem dX9_runs_129 : decode cX9_runs 129 = .ok (.dup, 1) := dk_89 (dk_at dksX9_runs_5 10 rfl rfl)
theorem dX9_runs_130 : decode cX9_runs 130 = .ok (.getfield 455, 3) := dk_180 1 199 (dk_at dksX9_runs_5 11 rfl rfl)
theorem dX9_runs_133 : decode cX9_runs 133 = .ok (.aload_n 0, 1) := dk_42 (dk_at dksX9_runs_5 14 rfl rfl)
theorem dX9_runs_134 : decode cX9_runs 134 = .ok (.iload_n 3, 1) := dk_29 (dk_at dksX9_runs_5 15 rfl rfl)
theorem dX9_runs_135 : decode cX9_runs 135 = .ok (.invokevirtual 458, 3) := dk_182 1 202 (dk_at dksX9_runs_5 16 rfl rfl)
theorem dX9_runs_138 : decode cX9_runs 138 = .ok (.ifCond .eq 7, 3) := dk_153 0 7 (dk_at dksX9_runs_5 19 rfl rfl)
theorem dX9_runs_141 : decode cX9_runs 141 = .ok (.iconst 0, 1) := dk_3 (dk_at dksX9_runs_5 22 rfl rfl)
theorem dX9_runs_142 : decode cX9_runs 142 = .ok (.goto 4, 3) := dk_167 0 4 (dk_at dksX9_runs_6 0 rfl rfl)
theorem dX9_runs_145 : decode cX9_runs 145 = .ok (.iconst 1, 1) := dk_4 (dk_at dksX9_runs_6 3 rfl rfl)
theorem dX9_runs_146 : decode cX9_runs 146 = .ok (.iadd, 1) := dk_96 (dk_at dksX9_runs_6 4 rfl rfl)
theorem dX9_runs_147 : decode cX9_runs 147 = .ok (.putfield 455, 3) := dk_181 1 199 (dk_at dksX9_runs_6 5 rfl rfl)
theorem dX9_runs_150 : decode cX9_runs 150 = .ok (.aload_n 0, 1) := dk_42 (dk_at dksX9_runs_6 8 rfl rfl)
theorem dX9_runs_151 : decode cX9_runs 151 = .ok (.getfield 446, 3) := dk_180 1 190 (dk_at dksX9_runs_6 9 rfl rfl)
theorem dX9_runs_154 : decode cX9_runs 154 = .ok (.iload 5, 2) := dk_21 5 (dk_at dksX9_runs_6 12 rfl rfl)
theorem dX9_runs_156 : decode cX9_runs 156 = .ok (.if_icmp .le 11, 3) := dk_164 0 11 (dk_at dksX9_runs_6 14 rfl rfl)
theorem dX9_runs_159 : decode cX9_runs 159 = .ok (.aload_n 0, 1) := dk_42 (dk_at dksX9_runs_6 17 rfl rfl)
theorem dX9_runs_160 : decode cX9_runs 160 = .ok (.invokevirtual 288, 3) := dk_182 1 32 (dk_at dksX9_runs_6 18 rfl rfl)
theorem dX9_runs_163 : decode cX9_runs 163 = .ok (.ifCond .eq 4, 3) := dk_153 0 4 (dk_at dksX9_runs_6 21 rfl rfl)
theorem dX9_runs_166 : decode cX9_runs 166 = .ok (.return_, 1) := dk_177 (dk_at dksX9_runs_7 0 rfl rfl)
theorem dX9_runs_167 : decode cX9_runs 167 = .ok (.iload 4, 2) := dk_21 4 (dk_at dksX9_runs_7 1 rfl rfl)
theorem dX9_runs_169 : decode cX9_runs 169 = .ok (.bipush 27, 2) := dk_16 27 (dk_at dksX9_runs_7 3 rfl rfl)
theorem dX9_runs_171 : decode cX9_runs 171 = .ok (.if_icmp .ne 19, 3) := dk_160 0 19 (dk_at dksX9_runs_7 5 rfl rfl)
theorem dX9_runs_174 : decode cX9_runs 174 = .ok (.aload_n 0, 1) := dk_42 (dk_at dksX9_runs_7 8 rfl rfl)
theorem dX9_runs_175 : decode cX9_runs 175 = .ok (.getfield 85, 3) := dk_180 0 85 (dk_at dksX9_runs_7 9 rfl rfl)
theorem dX9_runs_178 : decode cX9_runs 178 = .ok (.iload_n 2, 1) := dk_28 (dk_at dksX9_runs_7 12 rfl rfl)
theorem dX9_runs_179 : decode cX9_runs 179 = .ok (.aload_n 0, 1) := dk_42 (dk_at dksX9_runs_7 13 rfl rfl)
theorem dX9_runs_180 : decode cX9_runs 180 = .ok (.getfield 7, 3) := dk_180 0 7 (dk_at dksX9_runs_7 14 rfl rfl)
theorem dX9_runs_183 : decode cX9_runs 183 = .ok (.iload_n 3, 1) := dk_29 (dk_at dksX9_runs_7 17 rfl rfl)
theorem dX9_runs_184 : decode cX9_runs 184 = .ok (.iconst 1, 1) := dk_4 (dk_at dksX9_runs_7 18 rfl rfl)
theorem dX9_runs_185 : decode cX9_runs 185 = .ok (.iadd, 1) := dk_96 (dk_at dksX9_runs_7 19 rfl rfl)
theorem dX9_runs_186 : decode cX9_runs 186 = .ok (.iaload, 1) := dk_46 (dk_at dksX9_runs_7 20 rfl rfl)
theorem dX9_runs_187 : decode cX9_runs 187 = .ok (.iconst 1, 1) := dk_4 (dk_at dksX9_runs_7 21 rfl rfl)
theorem dX9_runs_188 : decode cX9_runs 188 = .ok (.isub, 1) := dk_100 (dk_at dksX9_runs_7 22 rfl rfl)
theorem dX9_runs_189 : decode cX9_runs 189 = .ok (.iastore, 1) := dk_79 (dk_at dksX9_runs_7 23 rfl rfl)
theorem dX9_runs_190 : decode cX9_runs 190 = .ok (.aload_n 0, 1) := dk_42 (dk_at dksX9_runs_8 0 rfl rfl)
theorem dX9_runs_191 : decode cX9_runs 191 = .ok (.iload 4, 2) := dk_21 4 (dk_at dksX9_runs_8 1 rfl rfl)
theorem dX9_runs_193 : decode cX9_runs 193 = .ok (.sipush 2400, 3) := dk_17 9 96 (dk_at dksX9_runs_8 3 rfl rfl)
theorem dX9_runs_196 : decode cX9_runs 196 = .ok (.if_icmp .lt 24, 3) := dk_161 0 24 (dk_at dksX9_runs_8 6 rfl rfl)
theorem dX9_runs_199 : decode cX9_runs 199 = .ok (.aload_n 0, 1) := dk_42 (dk_at dksX9_runs_8 9 rfl rfl)
theorem dX9_runs_200 : decode cX9_runs 200 = .ok (.iload_n 3, 1) := dk_29 (dk_at dksX9_runs_8 10 rfl rfl)
theorem dX9_runs_201 : decode cX9_runs 201 = .ok (.invokevirtual 461, 3) := dk_182 1 205 (dk_at dksX9_runs_8 11 rfl rfl)
theorem dX9_runs_204 : decode cX9_runs 204 = .ok (.ifCond .ne 16, 3) := dk_154 0 16 (dk_at dksX9_runs_8 14 rfl rfl)
theorem dX9_runs_207 : decode cX9_runs 207 = .ok (.aload_n 0, 1) := dk_42 (dk_at dksX9_runs_8 17 rfl rfl)
theorem dX9_runs_208 : decode cX9_runs 208 = .ok (.getfield 7, 3) := dk_180 0 7 (dk_at dksX9_runs_8 18 rfl rfl)
theorem dX9_runs_211 : decode cX9_runs 211 = .ok (.iload_n 3, 1) := dk_29 (dk_at dksX9_runs_8 21 rfl rfl)
theorem dX9_runs_212 : decode cX9_runs 212 = .ok (.iconst 4, 1) := dk_7 (dk_at dksX9_runs_8 22 rfl rfl)
theorem dX9_runs_213 : decode cX9_runs 213 = .ok (.iadd, 1) := dk_96 (dk_at dksX9_runs_8 23 rfl rfl)
theorem dX9_runs_214 : decode cX9_runs 214 = .ok (.iaload, 1) := dk_46 (dk_at dksX9_runs_9 0 rfl rfl)
theorem dX9_runs_215 : decode cX9_runs 215 = .ok (.iconst 1, 1) := dk_4 (dk_at dksX9_runs_9 1 rfl rfl)
theorem dX9_runs_216 : decode cX9_runs 216 = .ok (.iadd, 1) := dk_96 (dk_at dksX9_runs_9 2 rfl rfl)
theorem dX9_runs_217 : decode cX9_runs 217 = .ok (.goto 6, 3) := dk_167 0 6 (dk_at dksX9_runs_9 3 rfl rfl)
theorem dX9_runs_220 : decode cX9_runs 220 = .ok (.iload_n 2, 1) := dk_28 (dk_at dksX9_runs_9 6 rfl rfl)
theorem dX9_runs_221 : decode cX9_runs 221 = .ok (.iconst 1, 1) := dk_4 (dk_at dksX9_runs_9 7 rfl rfl)
theorem dX9_runs_222 : decode cX9_runs 222 = .ok (.iadd, 1) := dk_96 (dk_at dksX9_runs_9 8 rfl rfl)
theorem dX9_runs_223 : decode cX9_runs 223 = .ok (.invokevirtual 464, 3) := dk_182 1 208 (dk_at dksX9_runs_9 9 rfl rfl)
theorem dX9_runs_226 : decode cX9_runs 226 = .ok (.istore_n 2, 1) := dk_61 (dk_at dksX9_runs_9 12 rfl rfl)
theorem dX9_runs_227 : decode cX9_runs 227 = .ok (.goto (-172), 3) := dk_167 255 84 (dk_at dksX9_runs_9 13 rfl rfl)
theorem dX9_runs_230 : decode cX9_runs 230 = .ok (.return_, 1) := dk_177 (dk_at dksX9_runs_9 16 rfl rfl)
abbrev cX9_ordersMove : ByteArray := prog_21_method_124_code
def yX9_ordersMove : MethodName := ⟨RX9, "ordersMove", "(I)Z"⟩
def dkwX9_ordersMove_5 : List UInt8 := [180, 1, 190, 21, 4, 153, 0, 7, 4, 167, 0, 4, 3, 96, 181, 1, 190, 21, 4, 172]
abbrev dktX9_ordersMove_5 : List UInt8 := dkwX9_ordersMove_5 ++ []
def dkwX9_ordersMove_4 : List UInt8 := [153, 0, 18, 167, 0, 11, 42, 29, 182, 1, 95, 153, 0, 7, 4, 167, 0, 4, 3, 54, 4, 42, 89]
abbrev dktX9_ordersMove_4 : List UInt8 := dkwX9_ordersMove_4 ++ dktX9_ordersMove_5
def dkwX9_ordersMove_3 : List UInt8 := [6, 96, 46, 182, 1, 65, 153, 0, 34, 42, 29, 42, 180, 0, 7, 27, 6, 96, 46, 182, 1, 92]
abbrev dktX9_ordersMove_3 : List UInt8 := dkwX9_ordersMove_3 ++ dktX9_ordersMove_4
def dkwX9_ordersMove_2 : List UInt8 := [182, 1, 193, 172, 42, 29, 182, 1, 41, 153, 0, 55, 28, 16, 22, 160, 0, 37, 42, 42, 180, 0, 7, 27]
abbrev dktX9_ordersMove_2 : List UInt8 := dkwX9_ordersMove_2 ++ dktX9_ordersMove_3
def dkwX9_ordersMove_1 : List UInt8 := [16, 20, 160, 0, 25, 42, 29, 42, 180, 0, 7, 27, 5, 96, 46, 42, 180, 0, 7, 27, 6, 96, 46]
abbrev dktX9_ordersMove_1 : List UInt8 := dkwX9_ordersMove_1 ++ dktX9_ordersMove_2
def dkwX9_ordersMove_0 : List UInt8 := [42, 180, 0, 7, 27, 46, 61, 42, 180, 0, 7, 27, 4, 96, 46, 62, 28, 16, 19, 159, 0, 9, 28]
abbrev dktX9_ordersMove_0 : List UInt8 := dkwX9_ordersMove_0 ++ dktX9_ordersMove_1
theorem dksX9_ordersMove_0 : cX9_ordersMove.data.toList.drop 0 = dktX9_ordersMove_0 := by decide +kernel
theorem dksX9_ordersMove_1 : cX9_ordersMove.data.toList.drop 23 = dktX9_ordersMove_1 := dk_seg dksX9_ordersMove_0 23 rfl rfl
theorem dksX9_ordersMove_2 : cX9_ordersMove.data.toList.drop 46 = dktX9_ordersMove_2 := dk_seg dksX9_ordersMove_1 23 rfl rfl
theorem dksX9_ordersMove_3 : cX9_ordersMove.data.toList.drop 70 = dktX9_ordersMove_3 := dk_seg dksX9_ordersMove_2 24 rfl rfl
theorem dksX9_ordersMove_4 : cX9_ordersMove.data.toList.drop 92 = dktX9_ordersMove_4 := dk_seg dksX9_ordersMove_3 22 rfl rfl
theorem dksX9_ordersMove_5 : cX9_ordersMove.data.toList.drop 115 = dktX9_ordersMove_5 := dk_seg dksX9_ordersMove_4 23 rfl rfl
theorem dX9_ordersMove_0 : decode cX9_ordersMove 0 = .ok (.aload_n 0, 1) := dk_42 (dk_at dksX9_ordersMove_0 0 rfl rfl)
theorem dX9_ordersMove_1 : decode cX9_ordersMove 1 = .ok (.getfield 7, 3) := dk_180 0 7 (dk_at dksX9_ordersMove_0 1 rfl rfl)
theorem dX9_ordersMove_4 : decode cX9_ordersMove 4 = .ok (.iload_n 1, 1) := dk_27 (dk_at dksX9_ordersMove_0 4 rfl rfl)
theorem dX9_ordersMove_5 : decode cX9_ordersMove 5 = .ok (.iaload, 1) := dk_46 (dk_at dksX9_ordersMove_0 5 rfl rfl)
theorem dX9_ordersMove_6 : decode cX9_ordersMove 6 = .ok (.istore_n 2, 1) := dk_61 (dk_at dksX9_ordersMove_0 6 rfl rfl)
theorem dX9_ordersMove_7 : decode cX9_ordersMove 7 = .ok (.aload_n 0, 1) := dk_42 (dk_at dksX9_ordersMove_0 7 rfl rfl)
theorem dX9_ordersMove_8 : decode cX9_ordersMove 8 = .ok (.getfield 7, 3) := dk_180 0 7 (dk_at dksX9_ordersMove_0 8 rfl rfl)
theorem dX9_ordersMove_11 : decode cX9_ordersMove 11 = .ok (.iload_n 1, 1) := dk_27 (dk_at dksX9_ordersMove_0 11 rfl rfl)
theorem dX9_ordersMove_12 : decode cX9_ordersMove 12 = .ok (.iconst 1, 1) := dk_4 (dk_at dksX9_ordersMove_0 12 rfl rfl)
theorem dX9_ordersMove_13 : decode cX9_ordersMove 13 = .ok (.iadd, 1) := dk_96 (dk_at dksX9_ordersMove_0 13 rfl rfl)
theorem dX9_ordersMove_14 : decode cX9_ordersMove 14 = .ok (.iaload, 1) := dk_46 (dk_at dksX9_ordersMove_0 14 rfl rfl)
theorem dX9_ordersMove_15 : decode cX9_ordersMove 15 = .ok (.istore_n 3, 1) := dk_62 (dk_at dksX9_ordersMove_0 15 rfl rfl)
theorem dX9_ordersMove_16 : decode cX9_ordersMove 16 = .ok (.iload_n 2, 1) := dk_28 (dk_at dksX9_ordersMove_0 16 rfl rfl)
theorem dX9_ordersMove_17 : decode cX9_ordersMove 17 = .ok (.bipush 19, 2) := dk_16 19 (dk_at dksX9_ordersMove_0 17 rfl rfl)
theorem dX9_ordersMove_19 : decode cX9_ordersMove 19 = .ok (.if_icmp .eq 9, 3) := dk_159 0 9 (dk_at dksX9_ordersMove_0 19 rfl rfl)
theorem dX9_ordersMove_22 : decode cX9_ordersMove 22 = .ok (.iload_n 2, 1) := dk_28 (dk_at dksX9_ordersMove_0 22 rfl rfl)
theorem dX9_ordersMove_23 : decode cX9_ordersMove 23 = .ok (.bipush 20, 2) := dk_16 20 (dk_at dksX9_ordersMove_1 0 rfl rfl)
theorem dX9_ordersMove_25 : decode cX9_ordersMove 25 = .ok (.if_icmp .ne 25, 3) := dk_160 0 25 (dk_at dksX9_ordersMove_1 2 rfl rfl)
theorem dX9_ordersMove_28 : decode cX9_ordersMove 28 = .ok (.aload_n 0, 1) := dk_42 (dk_at dksX9_ordersMove_1 5 rfl rfl)
theorem dX9_ordersMove_29 : decode cX9_ordersMove 29 = .ok (.iload_n 3, 1) := dk_29 (dk_at dksX9_ordersMove_1 6 rfl rfl)
theorem dX9_ordersMove_30 : decode cX9_ordersMove 30 = .ok (.aload_n 0, 1) := dk_42 (dk_at dksX9_ordersMove_1 7 rfl rfl)
theorem dX9_ordersMove_31 : decode cX9_ordersMove 31 = .ok (.getfield 7, 3) := dk_180 0 7 (dk_at dksX9_ordersMove_1 8 rfl rfl)
theorem dX9_ordersMove_34 : decode cX9_ordersMove 34 = .ok (.iload_n 1, 1) := dk_27 (dk_at dksX9_ordersMove_1 11 rfl rfl)
theorem dX9_ordersMove_35 : decode cX9_ordersMove 35 = .ok (.iconst 2, 1) := dk_5 (dk_at dksX9_ordersMove_1 12 rfl rfl)
theorem dX9_ordersMove_36 : decode cX9_ordersMove 36 = .ok (.iadd, 1) := dk_96 (dk_at dksX9_ordersMove_1 13 rfl rfl)
theorem dX9_ordersMove_37 : decode cX9_ordersMove 37 = .ok (.iaload, 1) := dk_46 (dk_at dksX9_ordersMove_1 14 rfl rfl)
theorem dX9_ordersMove_38 : decode cX9_ordersMove 38 = .ok (.aload_n 0, 1) := dk_42 (dk_at dksX9_ordersMove_1 15 rfl rfl)
theorem dX9_ordersMove_39 : decode cX9_ordersMove 39 = .ok (.getfield 7, 3) := dk_180 0 7 (dk_at dksX9_ordersMove_1 16 rfl rfl)
theorem dX9_ordersMove_42 : decode cX9_ordersMove 42 = .ok (.iload_n 1, 1) := dk_27 (dk_at dksX9_ordersMove_1 19 rfl rfl)
theorem dX9_ordersMove_43 : decode cX9_ordersMove 43 = .ok (.iconst 3, 1) := dk_6 (dk_at dksX9_ordersMove_1 20 rfl rfl)
theorem dX9_ordersMove_44 : decode cX9_ordersMove 44 = .ok (.iadd, 1) := dk_96 (dk_at dksX9_ordersMove_1 21 rfl rfl)
theorem dX9_ordersMove_45 : decode cX9_ordersMove 45 = .ok (.iaload, 1) := dk_46 (dk_at dksX9_ordersMove_1 22 rfl rfl)
theorem dX9_ordersMove_46 : decode cX9_ordersMove 46 = .ok (.invokevirtual 449, 3) := dk_182 1 193 (dk_at dksX9_ordersMove_2 0 rfl rfl)
theorem dX9_ordersMove_49 : decode cX9_ordersMove 49 = .ok (.ireturn, 1) := dk_172 (dk_at dksX9_ordersMove_2 3 rfl rfl)
theorem dX9_ordersMove_50 : decode cX9_ordersMove 50 = .ok (.aload_n 0, 1) := dk_42 (dk_at dksX9_ordersMove_2 4 rfl rfl)
theorem dX9_ordersMove_51 : decode cX9_ordersMove 51 = .ok (.iload_n 3, 1) := dk_29 (dk_at dksX9_ordersMove_2 5 rfl rfl)
theorem dX9_ordersMove_52 : decode cX9_ordersMove 52 = .ok (.invokevirtual 297, 3) := dk_182 1 41 (dk_at dksX9_ordersMove_2 6 rfl rfl)
theorem dX9_ordersMove_55 : decode cX9_ordersMove 55 = .ok (.ifCond .eq 55, 3) := dk_153 0 55 (dk_at dksX9_ordersMove_2 9 rfl rfl)
theorem dX9_ordersMove_58 : decode cX9_ordersMove 58 = .ok (.iload_n 2, 1) := dk_28 (dk_at dksX9_ordersMove_2 12 rfl rfl)
theorem dX9_ordersMove_59 : decode cX9_ordersMove 59 = .ok (.bipush 22, 2) := dk_16 22 (dk_at dksX9_ordersMove_2 13 rfl rfl)
theorem dX9_ordersMove_61 : decode cX9_ordersMove 61 = .ok (.if_icmp .ne 37, 3) := dk_160 0 37 (dk_at dksX9_ordersMove_2 15 rfl rfl)
theorem dX9_ordersMove_64 : decode cX9_ordersMove 64 = .ok (.aload_n 0, 1) := dk_42 (dk_at dksX9_ordersMove_2 18 rfl rfl)
theorem dX9_ordersMove_65 : decode cX9_ordersMove 65 = .ok (.aload_n 0, 1) := dk_42 (dk_at dksX9_ordersMove_2 19 rfl rfl)
theorem dX9_ordersMove_66 : decode cX9_ordersMove 66 = .ok (.getfield 7, 3) := dk_180 0 7 (dk_at dksX9_ordersMove_2 20 rfl rfl)
theorem dX9_ordersMove_69 : decode cX9_ordersMove 69 = .ok (.iload_n 1, 1) := dk_27 (dk_at dksX9_ordersMove_2 23 rfl rfl)
theorem dX9_ordersMove_70 : decode cX9_ordersMove 70 = .ok (.iconst 3, 1) := dk_6 (dk_at dksX9_ordersMove_3 0 rfl rfl)
theorem dX9_ordersMove_71 : decode cX9_ordersMove 71 = .ok (.iadd, 1) := dk_96 (dk_at dksX9_ordersMove_3 1 rfl rfl)
theorem dX9_ordersMove_72 : decode cX9_ordersMove 72 = .ok (.iaload, 1) := dk_46 (dk_at dksX9_ordersMove_3 2 rfl rfl)
theorem dX9_ordersMove_73 : decode cX9_ordersMove 73 = .ok (.invokevirtual 321, 3) := dk_182 1 65 (dk_at dksX9_ordersMove_3 3 rfl rfl)
theorem dX9_ordersMove_76 : decode cX9_ordersMove 76 = .ok (.ifCond .eq 34, 3) := dk_153 0 34 (dk_at dksX9_ordersMove_3 6 rfl rfl)
theorem dX9_ordersMove_79 : decode cX9_ordersMove 79 = .ok (.aload_n 0, 1) := dk_42 (dk_at dksX9_ordersMove_3 9 rfl rfl)
theorem dX9_ordersMove_80 : decode cX9_ordersMove 80 = .ok (.iload_n 3, 1) := dk_29 (dk_at dksX9_ordersMove_3 10 rfl rfl)
theorem dX9_ordersMove_81 : decode cX9_ordersMove 81 = .ok (.aload_n 0, 1) := dk_42 (dk_at dksX9_ordersMove_3 11 rfl rfl)
theorem dX9_ordersMove_82 : decode cX9_ordersMove 82 = .ok (.getfield 7, 3) := dk_180 0 7 (dk_at dksX9_ordersMove_3 12 rfl rfl)
theorem dX9_ordersMove_85 : decode cX9_ordersMove 85 = .ok (.iload_n 1, 1) := dk_27 (dk_at dksX9_ordersMove_3 15 rfl rfl)
theorem dX9_ordersMove_86 : decode cX9_ordersMove 86 = .ok (.iconst 3, 1) := dk_6 (dk_at dksX9_ordersMove_3 16 rfl rfl)
theorem dX9_ordersMove_87 : decode cX9_ordersMove 87 = .ok (.iadd, 1) := dk_96 (dk_at dksX9_ordersMove_3 17 rfl rfl)
theorem dX9_ordersMove_88 : decode cX9_ordersMove 88 = .ok (.iaload, 1) := dk_46 (dk_at dksX9_ordersMove_3 18 rfl rfl)
theorem dX9_ordersMove_89 : decode cX9_ordersMove 89 = .ok (.invokevirtual 348, 3) := dk_182 1 92 (dk_at dksX9_ordersMove_3 19 rfl rfl)
theorem dX9_ordersMove_92 : decode cX9_ordersMove 92 = .ok (.ifCond .eq 18, 3) := dk_153 0 18 (dk_at dksX9_ordersMove_4 0 rfl rfl)
theorem dX9_ordersMove_95 : decode cX9_ordersMove 95 = .ok (.goto 11, 3) := dk_167 0 11 (dk_at dksX9_ordersMove_4 3 rfl rfl)
theorem dX9_ordersMove_98 : decode cX9_ordersMove 98 = .ok (.aload_n 0, 1) := dk_42 (dk_at dksX9_ordersMove_4 6 rfl rfl)
theorem dX9_ordersMove_99 : decode cX9_ordersMove 99 = .ok (.iload_n 3, 1) := dk_29 (dk_at dksX9_ordersMove_4 7 rfl rfl)
theorem dX9_ordersMove_100 : decode cX9_ordersMove 100 = .ok (.invokevirtual 351, 3) := dk_182 1 95 (dk_at dksX9_ordersMove_4 8 rfl rfl)
theorem dX9_ordersMove_103 : decode cX9_ordersMove 103 = .ok (.ifCond .eq 7, 3) := dk_153 0 7 (dk_at dksX9_ordersMove_4 11 rfl rfl)
theorem dX9_ordersMove_106 : decode cX9_ordersMove 106 = .ok (.iconst 1, 1) := dk_4 (dk_at dksX9_ordersMove_4 14 rfl rfl)
theorem dX9_ordersMove_107 : decode cX9_ordersMove 107 = .ok (.goto 4, 3) := dk_167 0 4 (dk_at dksX9_ordersMove_4 15 rfl rfl)
theorem dX9_ordersMove_110 : decode cX9_ordersMove 110 = .ok (.iconst 0, 1) := dk_3 (dk_at dksX9_ordersMove_4 18 rfl rfl)
theorem dX9_ordersMove_111 : decode cX9_ordersMove 111 = .ok (.istore 4, 2) := dk_54 4 (dk_at dksX9_ordersMove_4 19 rfl rfl)
theorem dX9_ordersMove_113 : decode cX9_ordersMove 113 = .ok (.aload_n 0, 1) := dk_42 (dk_at dksX9_ordersMove_4 21 rfl rfl)
theorem dX9_ordersMove_114 : decode cX9_ordersMove 114 = .ok (.dup, 1) := dk_89 (dk_at dksX9_ordersMove_4 22 rfl rfl)
theorem dX9_ordersMove_115 : decode cX9_ordersMove 115 = .ok (.getfield 446, 3) := dk_180 1 190 (dk_at dksX9_ordersMove_5 0 rfl rfl)
theorem dX9_ordersMove_118 : decode cX9_ordersMove 118 = .ok (.iload 4, 2) := dk_21 4 (dk_at dksX9_ordersMove_5 3 rfl rfl)
theorem dX9_ordersMove_120 : decode cX9_ordersMove 120 = .ok (.ifCond .eq 7, 3) := dk_153 0 7 (dk_at dksX9_ordersMove_5 5 rfl rfl)
theorem dX9_ordersMove_123 : decode cX9_ordersMove 123 = .ok (.iconst 1, 1) := dk_4 (dk_at dksX9_ordersMove_5 8 rfl rfl)
theorem dX9_ordersMove_124 : decode cX9_ordersMove 124 = .ok (.goto 4, 3) := dk_167 0 4 (dk_at dksX9_ordersMove_5 9 rfl rfl)
theorem dX9_ordersMove_127 : decode cX9_ordersMove 127 = .ok (.iconst 0, 1) := dk_3 (dk_at dksX9_ordersMove_5 12 rfl rfl)
theorem dX9_ordersMove_128 : decode cX9_ordersMove 128 = .ok (.iadd, 1) := dk_96 (dk_at dksX9_ordersMove_5 13 rfl rfl)
theorem dX9_ordersMove_129 : decode cX9_ordersMove 129 = .ok (.putfield 446, 3) := dk_181 1 190 (dk_at dksX9_ordersMove_5 14 rfl rfl)
theorem dX9_ordersMove_132 : decode cX9_ordersMove 132 = .ok (.iload 4, 2) := dk_21 4 (dk_at dksX9_ordersMove_5 17 rfl rfl)
theorem dX9_ordersMove_134 : decode cX9_ordersMove 134 = .ok (.ireturn, 1) := dk_172 (dk_at dksX9_ordersMove_5 19 rfl rfl)
abbrev cX9_ordersOver : ByteArray := prog_21_method_123_code
def yX9_ordersOver : MethodName := ⟨RX9, "ordersOver", "(III)Z"⟩
def dkwX9_ordersOver_6 : List UInt8 := [181, 1, 190, 42, 27, 29, 182, 1, 75, 28, 2, 159, 0, 9, 42, 28, 29, 182, 1, 75, 4, 172]
abbrev dktX9_ordersOver_6 : List UInt8 := dkwX9_ordersOver_6 ++ []
def dkwX9_ordersOver_5 : List UInt8 := [21, 4, 153, 0, 15, 42, 89, 180, 1, 187, 4, 96, 181, 1, 187, 4, 172, 42, 89, 180, 1, 190, 4, 96]
abbrev dktX9_ordersOver_5 : List UInt8 := dkwX9_ordersOver_5 ++ dktX9_ordersOver_6
def dkwX9_ordersOver_4 : List UInt8 := [159, 0, 23, 42, 29, 182, 1, 184, 154, 0, 8, 21, 4, 153, 0, 7, 4, 167, 0, 4, 3, 54, 4]
abbrev dktX9_ordersOver_4 : List UInt8 := dkwX9_ordersOver_4 ++ dktX9_ordersOver_5
def dkwX9_ordersOver_3 : List UInt8 := [180, 1, 181, 42, 29, 16, 7, 182, 1, 26, 96, 181, 1, 181, 42, 29, 182, 1, 184, 54, 4, 28, 2]
abbrev dktX9_ordersOver_3 : List UInt8 := dkwX9_ordersOver_3 ++ dktX9_ordersOver_4
def dkwX9_ordersOver_2 : List UInt8 := [29, 16, 6, 182, 1, 26, 28, 2, 160, 0, 7, 4, 167, 0, 4, 5, 104, 96, 181, 1, 178, 42, 89]
abbrev dktX9_ordersOver_2 : List UInt8 := dkwX9_ordersOver_2 ++ dktX9_ordersOver_3
def dkwX9_ordersOver_1 : List UInt8 := [182, 1, 35, 153, 0, 13, 42, 27, 28, 29, 182, 1, 71, 158, 0, 5, 3, 172, 42, 89, 180, 1, 178, 42]
abbrev dktX9_ordersOver_1 : List UInt8 := dkwX9_ordersOver_1 ++ dktX9_ordersOver_2
def dkwX9_ordersOver_0 : List UInt8 := [42, 27, 182, 1, 41, 153, 0, 35, 28, 2, 159, 0, 12, 42, 27, 28, 182, 1, 89, 153, 0, 21, 42, 29]
abbrev dktX9_ordersOver_0 : List UInt8 := dkwX9_ordersOver_0 ++ dktX9_ordersOver_1
theorem dksX9_ordersOver_0 : cX9_ordersOver.data.toList.drop 0 = dktX9_ordersOver_0 := by decide +kernel
theorem dksX9_ordersOver_1 : cX9_ordersOver.data.toList.drop 24 = dktX9_ordersOver_1 := dk_seg dksX9_ordersOver_0 24 rfl rfl
theorem dksX9_ordersOver_2 : cX9_ordersOver.data.toList.drop 48 = dktX9_ordersOver_2 := dk_seg dksX9_ordersOver_1 24 rfl rfl
theorem dksX9_ordersOver_3 : cX9_ordersOver.data.toList.drop 71 = dktX9_ordersOver_3 := dk_seg dksX9_ordersOver_2 23 rfl rfl
theorem dksX9_ordersOver_4 : cX9_ordersOver.data.toList.drop 94 = dktX9_ordersOver_4 := dk_seg dksX9_ordersOver_3 23 rfl rfl
theorem dksX9_ordersOver_5 : cX9_ordersOver.data.toList.drop 117 = dktX9_ordersOver_5 := dk_seg dksX9_ordersOver_4 23 rfl rfl
theorem dksX9_ordersOver_6 : cX9_ordersOver.data.toList.drop 141 = dktX9_ordersOver_6 := dk_seg dksX9_ordersOver_5 24 rfl rfl
theorem dX9_ordersOver_0 : decode cX9_ordersOver 0 = .ok (.aload_n 0, 1) := dk_42 (dk_at dksX9_ordersOver_0 0 rfl rfl)
theorem dX9_ordersOver_1 : decode cX9_ordersOver 1 = .ok (.iload_n 1, 1) := dk_27 (dk_at dksX9_ordersOver_0 1 rfl rfl)
theorem dX9_ordersOver_2 : decode cX9_ordersOver 2 = .ok (.invokevirtual 297, 3) := dk_182 1 41 (dk_at dksX9_ordersOver_0 2 rfl rfl)
theorem dX9_ordersOver_5 : decode cX9_ordersOver 5 = .ok (.ifCond .eq 35, 3) := dk_153 0 35 (dk_at dksX9_ordersOver_0 5 rfl rfl)
theorem dX9_ordersOver_8 : decode cX9_ordersOver 8 = .ok (.iload_n 2, 1) := dk_28 (dk_at dksX9_ordersOver_0 8 rfl rfl)
theorem dX9_ordersOver_9 : decode cX9_ordersOver 9 = .ok (.iconst (-1), 1) := dk_2 (dk_at dksX9_ordersOver_0 9 rfl rfl)
theorem dX9_ordersOver_10 : decode cX9_ordersOver 10 = .ok (.if_icmp .eq 12, 3) := dk_159 0 12 (dk_at dksX9_ordersOver_0 10 rfl rfl)
theorem dX9_ordersOver_13 : decode cX9_ordersOver 13 = .ok (.aload_n 0, 1) := dk_42 (dk_at dksX9_ordersOver_0 13 rfl rfl)
theorem dX9_ordersOver_14 : decode cX9_ordersOver 14 = .ok (.iload_n 1, 1) := dk_27 (dk_at dksX9_ordersOver_0 14 rfl rfl)
theorem dX9_ordersOver_15 : decode cX9_ordersOver 15 = .ok (.iload_n 2, 1) := dk_28 (dk_at dksX9_ordersOver_0 15 rfl rfl)
theorem dX9_ordersOver_16 : decode cX9_ordersOver 16 = .ok (.invokevirtual 345, 3) := dk_182 1 89 (dk_at dksX9_ordersOver_0 16 rfl rfl)
theorem dX9_ordersOver_19 : decode cX9_ordersOver 19 = .ok (.ifCond .eq 21, 3) := dk_153 0 21 (dk_at dksX9_ordersOver_0 19 rfl rfl)
theorem dX9_ordersOver_22 : decode cX9_ordersOver 22 = .ok (.aload_n 0, 1) := dk_42 (dk_at dksX9_ordersOver_0 22 rfl rfl)
theorem dX9_ordersOver_23 : decode cX9_ordersOver 23 = .ok (.iload_n 3, 1) := dk_29 (dk_at dksX9_ordersOver_0 23 rfl rfl)
theorem dX9_ordersOver_24 : decode cX9_ordersOver 24 = .ok (.invokevirtual 291, 3) := dk_182 1 35 (dk_at dksX9_ordersOver_1 0 rfl rfl)
theorem dX9_ordersOver_27 : decode cX9_ordersOver 27 = .ok (.ifCond .eq 13, 3) := dk_153 0 13 (dk_at dksX9_ordersOver_1 3 rfl rfl)
theorem dX9_ordersOver_30 : decode cX9_ordersOver 30 = .ok (.aload_n 0, 1) := dk_42 (dk_at dksX9_ordersOver_1 6 rfl rfl)
theorem dX9_ordersOver_31 : decode cX9_ordersOver 31 = .ok (.iload_n 1, 1) := dk_27 (dk_at dksX9_ordersOver_1 7 rfl rfl)
theorem dX9_ordersOver_32 : decode cX9_ordersOver 32 = .ok (.iload_n 2, 1) := dk_28 (dk_at dksX9_ordersOver_1 8 rfl rfl)
theorem dX9_ordersOver_33 : decode cX9_ordersOver 33 = .ok (.iload_n 3, 1) := dk_29 (dk_at dksX9_ordersOver_1 9 rfl rfl)
theorem dX9_ordersOver_34 : decode cX9_ordersOver 34 = .ok (.invokevirtual 327, 3) := dk_182 1 71 (dk_at dksX9_ordersOver_1 10 rfl rfl)
theorem dX9_ordersOver_37 : decode cX9_ordersOver 37 = .ok (.ifCond .le 5, 3) := dk_158 0 5 (dk_at dksX9_ordersOver_1 13 rfl rfl)
theorem dX9_ordersOver_40 : decode cX9_ordersOver 40 = .ok (.iconst 0, 1) := dk_3 (dk_at dksX9_ordersOver_1 16 rfl rfl)
theorem dX9_ordersOver_41 : decode cX9_ordersOver 41 = .ok (.ireturn, 1) := dk_172 (dk_at dksX9_ordersOver_1 17 rfl rfl)
theorem dX9_ordersOver_42 : decode cX9_ordersOver 42 = .ok (.aload_n 0, 1) := dk_42 (dk_at dksX9_ordersOver_1 18 rfl rfl)
theorem dX9_ordersOver_43 : decode cX9_ordersOver 43 = .ok (.dup, 1) := dk_89 (dk_at dksX9_ordersOver_1 19 rfl rfl)
theorem dX9_ordersOver_44 : decode cX9_ordersOver 44 = .ok (.getfield 434, 3) := dk_180 1 178 (dk_at dksX9_ordersOver_1 20 rfl rfl)
theorem dX9_ordersOver_47 : decode cX9_ordersOver 47 = .ok (.aload_n 0, 1) := dk_42 (dk_at dksX9_ordersOver_1 23 rfl rfl)
theorem dX9_ordersOver_48 : decode cX9_ordersOver 48 = .ok (.iload_n 3, 1) := dk_29 (dk_at dksX9_ordersOver_2 0 rfl rfl)
theorem dX9_ordersOver_49 : decode cX9_ordersOver 49 = .ok (.bipush 6, 2) := dk_16 6 (dk_at dksX9_ordersOver_2 1 rfl rfl)
theorem dX9_ordersOver_51 : decode cX9_ordersOver 51 = .ok (.invokevirtual 282, 3) := dk_182 1 26 (dk_at dksX9_ordersOver_2 3 rfl rfl)
theorem dX9_ordersOver_54 : decode cX9_ordersOver 54 = .ok (.iload_n 2, 1) := dk_28 (dk_at dksX9_ordersOver_2 6 rfl rfl)
theorem dX9_ordersOver_55 : decode cX9_ordersOver 55 = .ok (.iconst (-1), 1) := dk_2 (dk_at dksX9_ordersOver_2 7 rfl rfl)
theorem dX9_ordersOver_56 : decode cX9_ordersOver 56 = .ok (.if_icmp .ne 7, 3) := dk_160 0 7 (dk_at dksX9_ordersOver_2 8 rfl rfl)
theorem dX9_ordersOver_59 : decode cX9_ordersOver 59 = .ok (.iconst 1, 1) := dk_4 (dk_at dksX9_ordersOver_2 11 rfl rfl)
theorem dX9_ordersOver_60 : decode cX9_ordersOver 60 = .ok (.goto 4, 3) := dk_167 0 4 (dk_at dksX9_ordersOver_2 12 rfl rfl)
theorem dX9_ordersOver_63 : decode cX9_ordersOver 63 = .ok (.iconst 2, 1) := dk_5 (dk_at dksX9_ordersOver_2 15 rfl rfl)
theorem dX9_ordersOver_64 : decode cX9_ordersOver 64 = .ok (.imul, 1) := dk_104 (dk_at dksX9_ordersOver_2 16 rfl rfl)
theorem dX9_ordersOver_65 : decode cX9_ordersOver 65 = .ok (.iadd, 1) := dk_96 (dk_at dksX9_ordersOver_2 17 rfl rfl)
theorem dX9_ordersOver_66 : decode cX9_ordersOver 66 = .ok (.putfield 434, 3) := dk_181 1 178 (dk_at dksX9_ordersOver_2 18 rfl rfl)
theorem dX9_ordersOver_69 : decode cX9_ordersOver 69 = .ok (.aload_n 0, 1) := dk_42 (dk_at dksX9_ordersOver_2 21 rfl rfl)
theorem dX9_ordersOver_70 : decode cX9_ordersOver 70 = .ok (.dup, 1) := dk_89 (dk_at dksX9_ordersOver_2 22 rfl rfl)
theorem dX9_ordersOver_71 : decode cX9_ordersOver 71 = .ok (.getfield 437, 3) := dk_180 1 181 (dk_at dksX9_ordersOver_3 0 rfl rfl)
theorem dX9_ordersOver_74 : decode cX9_ordersOver 74 = .ok (.aload_n 0, 1) := dk_42 (dk_at dksX9_ordersOver_3 3 rfl rfl)
theorem dX9_ordersOver_75 : decode cX9_ordersOver 75 = .ok (.iload_n 3, 1) := dk_29 (dk_at dksX9_ordersOver_3 4 rfl rfl)
theorem dX9_ordersOver_76 : decode cX9_ordersOver 76 = .ok (.bipush 7, 2) := dk_16 7 (dk_at dksX9_ordersOver_3 5 rfl rfl)
theorem dX9_ordersOver_78 : decode cX9_ordersOver 78 = .ok (.invokevirtual 282, 3) := dk_182 1 26 (dk_at dksX9_ordersOver_3 7 rfl rfl)
theorem dX9_ordersOver_81 : decode cX9_ordersOver 81 = .ok (.iadd, 1) := dk_96 (dk_at dksX9_ordersOver_3 10 rfl rfl)
theorem dX9_ordersOver_82 : decode cX9_ordersOver 82 = .ok (.putfield 437, 3) := dk_181 1 181 (dk_at dksX9_ordersOver_3 11 rfl rfl)
theorem dX9_ordersOver_85 : decode cX9_ordersOver 85 = .ok (.aload_n 0, 1) := dk_42 (dk_at dksX9_ordersOver_3 14 rfl rfl)
theorem dX9_ordersOver_86 : decode cX9_ordersOver 86 = .ok (.iload_n 3, 1) := dk_29 (dk_at dksX9_ordersOver_3 15 rfl rfl)
theorem dX9_ordersOver_87 : decode cX9_ordersOver 87 = .ok (.invokevirtual 440, 3) := dk_182 1 184 (dk_at dksX9_ordersOver_3 16 rfl rfl)
theorem dX9_ordersOver_90 : decode cX9_ordersOver 90 = .ok (.istore 4, 2) := dk_54 4 (dk_at dksX9_ordersOver_3 19 rfl rfl)
theorem dX9_ordersOver_92 : decode cX9_ordersOver 92 = .ok (.iload_n 2, 1) := dk_28 (dk_at dksX9_ordersOver_3 21 rfl rfl)
theorem dX9_ordersOver_93 : decode cX9_ordersOver 93 = .ok (.iconst (-1), 1) := dk_2 (dk_at dksX9_ordersOver_3 22 rfl rfl)
theorem dX9_ordersOver_94 : decode cX9_ordersOver 94 = .ok (.if_icmp .eq 23, 3) := dk_159 0 23 (dk_at dksX9_ordersOver_4 0 rfl rfl)
theorem dX9_ordersOver_97 : decode cX9_ordersOver 97 = .ok (.aload_n 0, 1) := dk_42 (dk_at dksX9_ordersOver_4 3 rfl rfl)
theorem dX9_ordersOver_98 : decode cX9_ordersOver 98 = .ok (.iload_n 3, 1) := dk_29 (dk_at dksX9_ordersOver_4 4 rfl rfl)
theorem dX9_ordersOver_99 : decode cX9_ordersOver 99 = .ok (.invokevirtual 440, 3) := dk_182 1 184 (dk_at dksX9_ordersOver_4 5 rfl rfl)
theorem dX9_ordersOver_102 : decode cX9_ordersOver 102 = .ok (.ifCond .ne 8, 3) := dk_154 0 8 (dk_at dksX9_ordersOver_4 8 rfl rfl)
theorem dX9_ordersOver_105 : decode cX9_ordersOver 105 = .ok (.iload 4, 2) := dk_21 4 (dk_at dksX9_ordersOver_4 11 rfl rfl)
theorem dX9_ordersOver_107 : decode cX9_ordersOver 107 = .ok (.ifCond .eq 7, 3) := dk_153 0 7 (dk_at dksX9_ordersOver_4 13 rfl rfl)
theorem dX9_ordersOver_110 : decode cX9_ordersOver 110 = .ok (.iconst 1, 1) := dk_4 (dk_at dksX9_ordersOver_4 16 rfl rfl)
theorem dX9_ordersOver_111 : decode cX9_ordersOver 111 = .ok (.goto 4, 3) := dk_167 0 4 (dk_at dksX9_ordersOver_4 17 rfl rfl)
theorem dX9_ordersOver_114 : decode cX9_ordersOver 114 = .ok (.iconst 0, 1) := dk_3 (dk_at dksX9_ordersOver_4 20 rfl rfl)
theorem dX9_ordersOver_115 : decode cX9_ordersOver 115 = .ok (.istore 4, 2) := dk_54 4 (dk_at dksX9_ordersOver_4 21 rfl rfl)
theorem dX9_ordersOver_117 : decode cX9_ordersOver 117 = .ok (.iload 4, 2) := dk_21 4 (dk_at dksX9_ordersOver_5 0 rfl rfl)
theorem dX9_ordersOver_119 : decode cX9_ordersOver 119 = .ok (.ifCond .eq 15, 3) := dk_153 0 15 (dk_at dksX9_ordersOver_5 2 rfl rfl)
theorem dX9_ordersOver_122 : decode cX9_ordersOver 122 = .ok (.aload_n 0, 1) := dk_42 (dk_at dksX9_ordersOver_5 5 rfl rfl)
theorem dX9_ordersOver_123 : decode cX9_ordersOver 123 = .ok (.dup, 1) := dk_89 (dk_at dksX9_ordersOver_5 6 rfl rfl)
theorem dX9_ordersOver_124 : decode cX9_ordersOver 124 = .ok (.getfield 443, 3) := dk_180 1 187 (dk_at dksX9_ordersOver_5 7 rfl rfl)
theorem dX9_ordersOver_127 : decode cX9_ordersOver 127 = .ok (.iconst 1, 1) := dk_4 (dk_at dksX9_ordersOver_5 10 rfl rfl)
theorem dX9_ordersOver_128 : decode cX9_ordersOver 128 = .ok (.iadd, 1) := dk_96 (dk_at dksX9_ordersOver_5 11 rfl rfl)
theorem dX9_ordersOver_129 : decode cX9_ordersOver 129 = .ok (.putfield 443, 3) := dk_181 1 187 (dk_at dksX9_ordersOver_5 12 rfl rfl)
theorem dX9_ordersOver_132 : decode cX9_ordersOver 132 = .ok (.iconst 1, 1) := dk_4 (dk_at dksX9_ordersOver_5 15 rfl rfl)
theorem dX9_ordersOver_133 : decode cX9_ordersOver 133 = .ok (.ireturn, 1) := dk_172 (dk_at dksX9_ordersOver_5 16 rfl rfl)
theorem dX9_ordersOver_134 : decode cX9_ordersOver 134 = .ok (.aload_n 0, 1) := dk_42 (dk_at dksX9_ordersOver_5 17 rfl rfl)
theorem dX9_ordersOver_135 : decode cX9_ordersOver 135 = .ok (.dup, 1) := dk_89 (dk_at dksX9_ordersOver_5 18 rfl rfl)
theorem dX9_ordersOver_136 : decode cX9_ordersOver 136 = .ok (.getfield 446, 3) := dk_180 1 190 (dk_at dksX9_ordersOver_5 19 rfl rfl)
theorem dX9_ordersOver_139 : decode cX9_ordersOver 139 = .ok (.iconst 1, 1) := dk_4 (dk_at dksX9_ordersOver_5 22 rfl rfl)
theorem dX9_ordersOver_140 : decode cX9_ordersOver 140 = .ok (.iadd, 1) := dk_96 (dk_at dksX9_ordersOver_5 23 rfl rfl)
theorem dX9_ordersOver_141 : decode cX9_ordersOver 141 = .ok (.putfield 446, 3) := dk_181 1 190 (dk_at dksX9_ordersOver_6 0 rfl rfl)
theorem dX9_ordersOver_144 : decode cX9_ordersOver 144 = .ok (.aload_n 0, 1) := dk_42 (dk_at dksX9_ordersOver_6 3 rfl rfl)
theorem dX9_ordersOver_145 : decode cX9_ordersOver 145 = .ok (.iload_n 1, 1) := dk_27 (dk_at dksX9_ordersOver_6 4 rfl rfl)
theorem dX9_ordersOver_146 : decode cX9_ordersOver 146 = .ok (.iload_n 3, 1) := dk_29 (dk_at dksX9_ordersOver_6 5 rfl rfl)
theorem dX9_ordersOver_147 : decode cX9_ordersOver 147 = .ok (.invokevirtual 331, 3) := dk_182 1 75 (dk_at dksX9_ordersOver_6 6 rfl rfl)
theorem dX9_ordersOver_150 : decode cX9_ordersOver 150 = .ok (.iload_n 2, 1) := dk_28 (dk_at dksX9_ordersOver_6 9 rfl rfl)
theorem dX9_ordersOver_151 : decode cX9_ordersOver 151 = .ok (.iconst (-1), 1) := dk_2 (dk_at dksX9_ordersOver_6 10 rfl rfl)
theorem dX9_ordersOver_152 : decode cX9_ordersOver 152 = .ok (.if_icmp .eq 9, 3) := dk_159 0 9 (dk_at dksX9_ordersOver_6 11 rfl rfl)
theorem dX9_ordersOver_155 : decode cX9_ordersOver 155 = .ok (.aload_n 0, 1) := dk_42 (dk_at dksX9_ordersOver_6 14 rfl rfl)
theorem dX9_ordersOver_156 : decode cX9_ordersOver 156 = .ok (.iload_n 2, 1) := dk_28 (dk_at dksX9_ordersOver_6 15 rfl rfl)
theorem dX9_ordersOver_157 : decode cX9_ordersOver 157 = .ok (.iload_n 3, 1) := dk_29 (dk_at dksX9_ordersOver_6 16 rfl rfl)
theorem dX9_ordersOver_158 : decode cX9_ordersOver 158 = .ok (.invokevirtual 331, 3) := dk_182 1 75 (dk_at dksX9_ordersOver_6 17 rfl rfl)
theorem dX9_ordersOver_161 : decode cX9_ordersOver 161 = .ok (.iconst 1, 1) := dk_4 (dk_at dksX9_ordersOver_6 20 rfl rfl)
theorem dX9_ordersOver_162 : decode cX9_ordersOver 162 = .ok (.ireturn, 1) := dk_172 (dk_at dksX9_ordersOver_6 21 rfl rfl)
abbrev cX9_slips : ByteArray := prog_21_method_122_code
def yX9_slips : MethodName := ⟨RX9, "slips", "(I)Z"⟩
def dkwX9_slips_2 : List UInt8 := [112, 42, 27, 16, 8, 182, 1, 26, 162, 0, 7, 4, 167, 0, 4, 3, 172]
abbrev dktX9_slips_2 : List UInt8 := dkwX9_slips_2 ++ []
def dkwX9_slips_1 : List UInt8 := [17, 10, 181, 104, 17, 39, 23, 96, 19, 1, 177, 112, 181, 1, 174, 42, 180, 1, 174, 16, 8, 108, 16, 16]
abbrev dktX9_slips_1 : List UInt8 := dkwX9_slips_1 ++ dktX9_slips_2
def dkwX9_slips_0 : List UInt8 := [42, 180, 1, 170, 153, 0, 13, 42, 27, 16, 8, 182, 1, 26, 154, 0, 5, 3, 172, 42, 42, 180, 1, 174]
abbrev dktX9_slips_0 : List UInt8 := dkwX9_slips_0 ++ dktX9_slips_1
theorem dksX9_slips_0 : cX9_slips.data.toList.drop 0 = dktX9_slips_0 := by decide +kernel
theorem dksX9_slips_1 : cX9_slips.data.toList.drop 24 = dktX9_slips_1 := dk_seg dksX9_slips_0 24 rfl rfl
theorem dksX9_slips_2 : cX9_slips.data.toList.drop 48 = dktX9_slips_2 := dk_seg dksX9_slips_1 24 rfl rfl
theorem dX9_slips_0 : decode cX9_slips 0 = .ok (.aload_n 0, 1) := dk_42 (dk_at dksX9_slips_0 0 rfl rfl)
theorem dX9_slips_1 : decode cX9_slips 1 = .ok (.getfield 426, 3) := dk_180 1 170 (dk_at dksX9_slips_0 1 rfl rfl)
theorem dX9_slips_4 : decode cX9_slips 4 = .ok (.ifCond .eq 13, 3) := dk_153 0 13 (dk_at dksX9_slips_0 4 rfl rfl)
theorem dX9_slips_7 : decode cX9_slips 7 = .ok (.aload_n 0, 1) := dk_42 (dk_at dksX9_slips_0 7 rfl rfl)
theorem dX9_slips_8 : decode cX9_slips 8 = .ok (.iload_n 1, 1) := dk_27 (dk_at dksX9_slips_0 8 rfl rfl)
theorem dX9_slips_9 : decode cX9_slips 9 = .ok (.bipush 8, 2) := dk_16 8 (dk_at dksX9_slips_0 9 rfl rfl)
theorem dX9_slips_11 : decode cX9_slips 11 = .ok (.invokevirtual 282, 3) := dk_182 1 26 (dk_at dksX9_slips_0 11 rfl rfl)
theorem dX9_slips_14 : decode cX9_slips 14 = .ok (.ifCond .ne 5, 3) := dk_154 0 5 (dk_at dksX9_slips_0 14 rfl rfl)
theorem dX9_slips_17 : decode cX9_slips 17 = .ok (.iconst 0, 1) := dk_3 (dk_at dksX9_slips_0 17 rfl rfl)
theorem dX9_slips_18 : decode cX9_slips 18 = .ok (.ireturn, 1) := dk_172 (dk_at dksX9_slips_0 18 rfl rfl)
theorem dX9_slips_19 : decode cX9_slips 19 = .ok (.aload_n 0, 1) := dk_42 (dk_at dksX9_slips_0 19 rfl rfl)
theorem dX9_slips_20 : decode cX9_slips 20 = .ok (.aload_n 0, 1) := dk_42 (dk_at dksX9_slips_0 20 rfl rfl)
theorem dX9_slips_21 : decode cX9_slips 21 = .ok (.getfield 430, 3) := dk_180 1 174 (dk_at dksX9_slips_0 21 rfl rfl)
theorem dX9_slips_24 : decode cX9_slips 24 = .ok (.sipush 2741, 3) := dk_17 10 181 (dk_at dksX9_slips_1 0 rfl rfl)
theorem dX9_slips_27 : decode cX9_slips 27 = .ok (.imul, 1) := dk_104 (dk_at dksX9_slips_1 3 rfl rfl)
theorem dX9_slips_28 : decode cX9_slips 28 = .ok (.sipush 10007, 3) := dk_17 39 23 (dk_at dksX9_slips_1 4 rfl rfl)
theorem dX9_slips_31 : decode cX9_slips 31 = .ok (.iadd, 1) := dk_96 (dk_at dksX9_slips_1 7 rfl rfl)
theorem dX9_slips_32 : decode cX9_slips 32 = .ok (.ldc_w 433, 3) := dk_19 1 177 (dk_at dksX9_slips_1 8 rfl rfl)
theorem dX9_slips_35 : decode cX9_slips 35 = .ok (.irem, 1) := dk_112 (dk_at dksX9_slips_1 11 rfl rfl)
theorem dX9_slips_36 : decode cX9_slips 36 = .ok (.putfield 430, 3) := dk_181 1 174 (dk_at dksX9_slips_1 12 rfl rfl)
theorem dX9_slips_39 : decode cX9_slips 39 = .ok (.aload_n 0, 1) := dk_42 (dk_at dksX9_slips_1 15 rfl rfl)
theorem dX9_slips_40 : decode cX9_slips 40 = .ok (.getfield 430, 3) := dk_180 1 174 (dk_at dksX9_slips_1 16 rfl rfl)
theorem dX9_slips_43 : decode cX9_slips 43 = .ok (.bipush 8, 2) := dk_16 8 (dk_at dksX9_slips_1 19 rfl rfl)
theorem dX9_slips_45 : decode cX9_slips 45 = .ok (.idiv, 1) := dk_108 (dk_at dksX9_slips_1 21 rfl rfl)
theorem dX9_slips_46 : decode cX9_slips 46 = .ok (.bipush 16, 2) := dk_16 16 (dk_at dksX9_slips_1 22 rfl rfl)
theorem dX9_slips_48 : decode cX9_slips 48 = .ok (.irem, 1) := dk_112 (dk_at dksX9_slips_2 0 rfl rfl)
theorem dX9_slips_49 : decode cX9_slips 49 = .ok (.aload_n 0, 1) := dk_42 (dk_at dksX9_slips_2 1 rfl rfl)
theorem dX9_slips_50 : decode cX9_slips 50 = .ok (.iload_n 1, 1) := dk_27 (dk_at dksX9_slips_2 2 rfl rfl)
theorem dX9_slips_51 : decode cX9_slips 51 = .ok (.bipush 8, 2) := dk_16 8 (dk_at dksX9_slips_2 3 rfl rfl)
theorem dX9_slips_53 : decode cX9_slips 53 = .ok (.invokevirtual 282, 3) := dk_182 1 26 (dk_at dksX9_slips_2 5 rfl rfl)
theorem dX9_slips_56 : decode cX9_slips 56 = .ok (.if_icmp .ge 7, 3) := dk_162 0 7 (dk_at dksX9_slips_2 8 rfl rfl)
theorem dX9_slips_59 : decode cX9_slips 59 = .ok (.iconst 1, 1) := dk_4 (dk_at dksX9_slips_2 11 rfl rfl)
theorem dX9_slips_60 : decode cX9_slips 60 = .ok (.goto 4, 3) := dk_167 0 4 (dk_at dksX9_slips_2 12 rfl rfl)
theorem dX9_slips_63 : decode cX9_slips 63 = .ok (.iconst 0, 1) := dk_3 (dk_at dksX9_slips_2 15 rfl rfl)
theorem dX9_slips_64 : decode cX9_slips 64 = .ok (.ireturn, 1) := dk_172 (dk_at dksX9_slips_2 16 rfl rfl)
abbrev cX9_holdsNow : ByteArray := prog_21_method_125_code
def yX9_holdsNow : MethodName := ⟨RX9, "holdsNow", "(I)Z"⟩
def dkwX9_holdsNow_4 : List UInt8 := [167, 0, 4, 3, 172]
abbrev dktX9_holdsNow_4 : List UInt8 := dkwX9_holdsNow_4 ++ []
def dkwX9_holdsNow_3 : List UInt8 := [159, 0, 27, 167, 0, 20, 42, 180, 0, 47, 29, 46, 42, 180, 0, 7, 27, 5, 96, 46, 160, 0, 7, 4]
abbrev dktX9_holdsNow_3 : List UInt8 := dkwX9_holdsNow_3 ++ dktX9_holdsNow_4
def dkwX9_holdsNow_2 : List UInt8 := [3, 172, 42, 29, 182, 1, 41, 153, 0, 42, 28, 16, 26, 160, 0, 15, 42, 29, 182, 1, 50, 2]
abbrev dktX9_holdsNow_2 : List UInt8 := dkwX9_holdsNow_2 ++ dktX9_holdsNow_3
def dkwX9_holdsNow_1 : List UInt8 := [160, 0, 26, 42, 29, 182, 1, 35, 153, 0, 16, 42, 29, 3, 182, 1, 68, 153, 0, 7, 4, 167, 0, 4]
abbrev dktX9_holdsNow_1 : List UInt8 := dkwX9_holdsNow_1 ++ dktX9_holdsNow_2
def dkwX9_holdsNow_0 : List UInt8 := [42, 180, 0, 7, 27, 46, 17, 9, 96, 100, 61, 42, 180, 0, 7, 27, 4, 96, 46, 62, 28, 16, 25]
abbrev dktX9_holdsNow_0 : List UInt8 := dkwX9_holdsNow_0 ++ dktX9_holdsNow_1
theorem dksX9_holdsNow_0 : cX9_holdsNow.data.toList.drop 0 = dktX9_holdsNow_0 := by decide +kernel
theorem dksX9_holdsNow_1 : cX9_holdsNow.data.toList.drop 23 = dktX9_holdsNow_1 := dk_seg dksX9_holdsNow_0 23 rfl rfl
theorem dksX9_holdsNow_2 : cX9_holdsNow.data.toList.drop 47 = dktX9_holdsNow_2 := dk_seg dksX9_holdsNow_1 24 rfl rfl
theorem dksX9_holdsNow_3 : cX9_holdsNow.data.toList.drop 69 = dktX9_holdsNow_3 := dk_seg dksX9_holdsNow_2 22 rfl rfl
theorem dksX9_holdsNow_4 : cX9_holdsNow.data.toList.drop 93 = dktX9_holdsNow_4 := dk_seg dksX9_holdsNow_3 24 rfl rfl
theorem dX9_holdsNow_0 : decode cX9_holdsNow 0 = .ok (.aload_n 0, 1) := dk_42 (dk_at dksX9_holdsNow_0 0 rfl rfl)
theorem dX9_holdsNow_1 : decode cX9_holdsNow 1 = .ok (.getfield 7, 3) := dk_180 0 7 (dk_at dksX9_holdsNow_0 1 rfl rfl)
theorem dX9_holdsNow_4 : decode cX9_holdsNow 4 = .ok (.iload_n 1, 1) := dk_27 (dk_at dksX9_holdsNow_0 4 rfl rfl)
theorem dX9_holdsNow_5 : decode cX9_holdsNow 5 = .ok (.iaload, 1) := dk_46 (dk_at dksX9_holdsNow_0 5 rfl rfl)
theorem dX9_holdsNow_6 : decode cX9_holdsNow 6 = .ok (.sipush 2400, 3) := dk_17 9 96 (dk_at dksX9_holdsNow_0 6 rfl rfl)
theorem dX9_holdsNow_9 : decode cX9_holdsNow 9 = .ok (.isub, 1) := dk_100 (dk_at dksX9_holdsNow_0 9 rfl rfl)
theorem dX9_holdsNow_10 : decode cX9_holdsNow 10 = .ok (.istore_n 2, 1) := dk_61 (dk_at dksX9_holdsNow_0 10 rfl rfl)
theorem dX9_holdsNow_11 : decode cX9_holdsNow 11 = .ok (.aload_n 0, 1) := dk_42 (dk_at dksX9_holdsNow_0 11 rfl rfl)
theorem dX9_holdsNow_12 : decode cX9_holdsNow 12 = .ok (.getfield 7, 3) := dk_180 0 7 (dk_at dksX9_holdsNow_0 12 rfl rfl)
theorem dX9_holdsNow_15 : decode cX9_holdsNow 15 = .ok (.iload_n 1, 1) := dk_27 (dk_at dksX9_holdsNow_0 15 rfl rfl)
theorem dX9_holdsNow_16 : decode cX9_holdsNow 16 = .ok (.iconst 1, 1) := dk_4 (dk_at dksX9_holdsNow_0 16 rfl rfl)
theorem dX9_holdsNow_17 : decode cX9_holdsNow 17 = .ok (.iadd, 1) := dk_96 (dk_at dksX9_holdsNow_0 17 rfl rfl)
theorem dX9_holdsNow_18 : decode cX9_holdsNow 18 = .ok (.iaload, 1) := dk_46 (dk_at dksX9_holdsNow_0 18 rfl rfl)
theorem dX9_holdsNow_19 : decode cX9_holdsNow 19 = .ok (.istore_n 3, 1) := dk_62 (dk_at dksX9_holdsNow_0 19 rfl rfl)
theorem dX9_holdsNow_20 : decode cX9_holdsNow 20 = .ok (.iload_n 2, 1) := dk_28 (dk_at dksX9_holdsNow_0 20 rfl rfl)
theorem dX9_holdsNow_21 : decode cX9_holdsNow 21 = .ok (.bipush 25, 2) := dk_16 25 (dk_at dksX9_holdsNow_0 21 rfl rfl)
theorem dX9_holdsNow_23 : decode cX9_holdsNow 23 = .ok (.if_icmp .ne 26, 3) := dk_160 0 26 (dk_at dksX9_holdsNow_1 0 rfl rfl)
theorem dX9_holdsNow_26 : decode cX9_holdsNow 26 = .ok (.aload_n 0, 1) := dk_42 (dk_at dksX9_holdsNow_1 3 rfl rfl)
theorem dX9_holdsNow_27 : decode cX9_holdsNow 27 = .ok (.iload_n 3, 1) := dk_29 (dk_at dksX9_holdsNow_1 4 rfl rfl)
theorem dX9_holdsNow_28 : decode cX9_holdsNow 28 = .ok (.invokevirtual 291, 3) := dk_182 1 35 (dk_at dksX9_holdsNow_1 5 rfl rfl)
theorem dX9_holdsNow_31 : decode cX9_holdsNow 31 = .ok (.ifCond .eq 16, 3) := dk_153 0 16 (dk_at dksX9_holdsNow_1 8 rfl rfl)
theorem dX9_holdsNow_34 : decode cX9_holdsNow 34 = .ok (.aload_n 0, 1) := dk_42 (dk_at dksX9_holdsNow_1 11 rfl rfl)
theorem dX9_holdsNow_35 : decode cX9_holdsNow 35 = .ok (.iload_n 3, 1) := dk_29 (dk_at dksX9_holdsNow_1 12 rfl rfl)
theorem dX9_holdsNow_36 : decode cX9_holdsNow 36 = .ok (.iconst 0, 1) := dk_3 (dk_at dksX9_holdsNow_1 13 rfl rfl)
theorem dX9_holdsNow_37 : decode cX9_holdsNow 37 = .ok (.invokevirtual 324, 3) := dk_182 1 68 (dk_at dksX9_holdsNow_1 14 rfl rfl)
theorem dX9_holdsNow_40 : decode cX9_holdsNow 40 = .ok (.ifCond .eq 7, 3) := dk_153 0 7 (dk_at dksX9_holdsNow_1 17 rfl rfl)
theorem dX9_holdsNow_43 : decode cX9_holdsNow 43 = .ok (.iconst 1, 1) := dk_4 (dk_at dksX9_holdsNow_1 20 rfl rfl)
theorem dX9_holdsNow_44 : decode cX9_holdsNow 44 = .ok (.goto 4, 3) := dk_167 0 4 (dk_at dksX9_holdsNow_1 21 rfl rfl)
theorem dX9_holdsNow_47 : decode cX9_holdsNow 47 = .ok (.iconst 0, 1) := dk_3 (dk_at dksX9_holdsNow_2 0 rfl rfl)
theorem dX9_holdsNow_48 : decode cX9_holdsNow 48 = .ok (.ireturn, 1) := dk_172 (dk_at dksX9_holdsNow_2 1 rfl rfl)
theorem dX9_holdsNow_49 : decode cX9_holdsNow 49 = .ok (.aload_n 0, 1) := dk_42 (dk_at dksX9_holdsNow_2 2 rfl rfl)
theorem dX9_holdsNow_50 : decode cX9_holdsNow 50 = .ok (.iload_n 3, 1) := dk_29 (dk_at dksX9_holdsNow_2 3 rfl rfl)
theorem dX9_holdsNow_51 : decode cX9_holdsNow 51 = .ok (.invokevirtual 297, 3) := dk_182 1 41 (dk_at dksX9_holdsNow_2 4 rfl rfl)
theorem dX9_holdsNow_54 : decode cX9_holdsNow 54 = .ok (.ifCond .eq 42, 3) := dk_153 0 42 (dk_at dksX9_holdsNow_2 7 rfl rfl)
theorem dX9_holdsNow_57 : decode cX9_holdsNow 57 = .ok (.iload_n 2, 1) := dk_28 (dk_at dksX9_holdsNow_2 10 rfl rfl)
theorem dX9_holdsNow_58 : decode cX9_holdsNow 58 = .ok (.bipush 26, 2) := dk_16 26 (dk_at dksX9_holdsNow_2 11 rfl rfl)
theorem dX9_holdsNow_60 : decode cX9_holdsNow 60 = .ok (.if_icmp .ne 15, 3) := dk_160 0 15 (dk_at dksX9_holdsNow_2 13 rfl rfl)
theorem dX9_holdsNow_63 : decode cX9_holdsNow 63 = .ok (.aload_n 0, 1) := dk_42 (dk_at dksX9_holdsNow_2 16 rfl rfl)
theorem dX9_holdsNow_64 : decode cX9_holdsNow 64 = .ok (.iload_n 3, 1) := dk_29 (dk_at dksX9_holdsNow_2 17 rfl rfl)
theorem dX9_holdsNow_65 : decode cX9_holdsNow 65 = .ok (.invokevirtual 306, 3) := dk_182 1 50 (dk_at dksX9_holdsNow_2 18 rfl rfl)
theorem dX9_holdsNow_68 : decode cX9_holdsNow 68 = .ok (.iconst (-1), 1) := dk_2 (dk_at dksX9_holdsNow_2 21 rfl rfl)
theorem dX9_holdsNow_69 : decode cX9_holdsNow 69 = .ok (.if_icmp .eq 27, 3) := dk_159 0 27 (dk_at dksX9_holdsNow_3 0 rfl rfl)
theorem dX9_holdsNow_72 : decode cX9_holdsNow 72 = .ok (.goto 20, 3) := dk_167 0 20 (dk_at dksX9_holdsNow_3 3 rfl rfl)
theorem dX9_holdsNow_75 : decode cX9_holdsNow 75 = .ok (.aload_n 0, 1) := dk_42 (dk_at dksX9_holdsNow_3 6 rfl rfl)
theorem dX9_holdsNow_76 : decode cX9_holdsNow 76 = .ok (.getfield 47, 3) := dk_180 0 47 (dk_at dksX9_holdsNow_3 7 rfl rfl)
theorem dX9_holdsNow_79 : decode cX9_holdsNow 79 = .ok (.iload_n 3, 1) := dk_29 (dk_at dksX9_holdsNow_3 10 rfl rfl)
theorem dX9_holdsNow_80 : decode cX9_holdsNow 80 = .ok (.iaload, 1) := dk_46 (dk_at dksX9_holdsNow_3 11 rfl rfl)
theorem dX9_holdsNow_81 : decode cX9_holdsNow 81 = .ok (.aload_n 0, 1) := dk_42 (dk_at dksX9_holdsNow_3 12 rfl rfl)
theorem dX9_holdsNow_82 : decode cX9_holdsNow 82 = .ok (.getfield 7, 3) := dk_180 0 7 (dk_at dksX9_holdsNow_3 13 rfl rfl)
theorem dX9_holdsNow_85 : decode cX9_holdsNow 85 = .ok (.iload_n 1, 1) := dk_27 (dk_at dksX9_holdsNow_3 16 rfl rfl)
theorem dX9_holdsNow_86 : decode cX9_holdsNow 86 = .ok (.iconst 2, 1) := dk_5 (dk_at dksX9_holdsNow_3 17 rfl rfl)
theorem dX9_holdsNow_87 : decode cX9_holdsNow 87 = .ok (.iadd, 1) := dk_96 (dk_at dksX9_holdsNow_3 18 rfl rfl)
theorem dX9_holdsNow_88 : decode cX9_holdsNow 88 = .ok (.iaload, 1) := dk_46 (dk_at dksX9_holdsNow_3 19 rfl rfl)
theorem dX9_holdsNow_89 : decode cX9_holdsNow 89 = .ok (.if_icmp .ne 7, 3) := dk_160 0 7 (dk_at dksX9_holdsNow_3 20 rfl rfl)
theorem dX9_holdsNow_92 : decode cX9_holdsNow 92 = .ok (.iconst 1, 1) := dk_4 (dk_at dksX9_holdsNow_3 23 rfl rfl)
theorem dX9_holdsNow_93 : decode cX9_holdsNow 93 = .ok (.goto 4, 3) := dk_167 0 4 (dk_at dksX9_holdsNow_4 0 rfl rfl)
theorem dX9_holdsNow_96 : decode cX9_holdsNow 96 = .ok (.iconst 0, 1) := dk_3 (dk_at dksX9_holdsNow_4 3 rfl rfl)
theorem dX9_holdsNow_97 : decode cX9_holdsNow 97 = .ok (.ireturn, 1) := dk_172 (dk_at dksX9_holdsNow_4 4 rfl rfl)
abbrev cX9_behindEnds : ByteArray := prog_21_method_126_code
def yX9_behindEnds : MethodName := ⟨RX9, "behindEnds", "(I)I"⟩
def dkwX9_behindEnds_4 : List UInt8 := [79, 21, 4, 153, 0, 9, 29, 4, 96, 167, 0, 6, 28, 4, 96, 61, 167, 255, 150, 28, 172]
abbrev dktX9_behindEnds_4 : List UInt8 := dkwX9_behindEnds_4 ++ []
def dkwX9_behindEnds_3 : List UInt8 := [167, 0, 4, 3, 54, 4, 42, 180, 0, 85, 29, 92, 46, 21, 4, 153, 0, 7, 4, 167, 0, 4, 3, 100]
abbrev dktX9_behindEnds_3 : List UInt8 := dkwX9_behindEnds_3 ++ dktX9_behindEnds_4
def dkwX9_behindEnds_2 : List UInt8 := [16, 120, 8, 29, 104, 96, 46, 16, 27, 160, 0, 16, 42, 180, 0, 85, 29, 46, 158, 0, 7, 4]
abbrev dktX9_behindEnds_2 : List UInt8 := dkwX9_behindEnds_2 ++ dktX9_behindEnds_3
def dkwX9_behindEnds_1 : List UInt8 := [16, 28, 160, 0, 86, 42, 180, 0, 7, 16, 120, 8, 28, 104, 96, 7, 96, 46, 62, 42, 180, 0, 7]
abbrev dktX9_behindEnds_1 : List UInt8 := dkwX9_behindEnds_1 ++ dktX9_behindEnds_2
def dkwX9_behindEnds_0 : List UInt8 := [27, 61, 28, 42, 180, 0, 7, 7, 46, 162, 0, 102, 42, 180, 0, 7, 16, 120, 8, 28, 104, 96, 46]
abbrev dktX9_behindEnds_0 : List UInt8 := dkwX9_behindEnds_0 ++ dktX9_behindEnds_1
theorem dksX9_behindEnds_0 : cX9_behindEnds.data.toList.drop 0 = dktX9_behindEnds_0 := by decide +kernel
theorem dksX9_behindEnds_1 : cX9_behindEnds.data.toList.drop 23 = dktX9_behindEnds_1 := dk_seg dksX9_behindEnds_0 23 rfl rfl
theorem dksX9_behindEnds_2 : cX9_behindEnds.data.toList.drop 46 = dktX9_behindEnds_2 := dk_seg dksX9_behindEnds_1 23 rfl rfl
theorem dksX9_behindEnds_3 : cX9_behindEnds.data.toList.drop 68 = dktX9_behindEnds_3 := dk_seg dksX9_behindEnds_2 22 rfl rfl
theorem dksX9_behindEnds_4 : cX9_behindEnds.data.toList.drop 92 = dktX9_behindEnds_4 := dk_seg dksX9_behindEnds_3 24 rfl rfl
theorem dX9_behindEnds_0 : decode cX9_behindEnds 0 = .ok (.iload_n 1, 1) := dk_27 (dk_at dksX9_behindEnds_0 0 rfl rfl)
theorem dX9_behindEnds_1 : decode cX9_behindEnds 1 = .ok (.istore_n 2, 1) := dk_61 (dk_at dksX9_behindEnds_0 1 rfl rfl)
theorem dX9_behindEnds_2 : decode cX9_behindEnds 2 = .ok (.iload_n 2, 1) := dk_28 (dk_at dksX9_behindEnds_0 2 rfl rfl)
theorem dX9_behindEnds_3 : decode cX9_behindEnds 3 = .ok (.aload_n 0, 1) := dk_42 (dk_at dksX9_behindEnds_0 3 rfl rfl)
theorem dX9_behindEnds_4 : decode cX9_behindEnds 4 = .ok (.getfield 7, 3) := dk_180 0 7 (dk_at dksX9_behindEnds_0 4 rfl rfl)
theorem dX9_behindEnds_7 : decode cX9_behindEnds 7 = .ok (.iconst 4, 1) := dk_7 (dk_at dksX9_behindEnds_0 7 rfl rfl)
theorem dX9_behindEnds_8 : decode cX9_behindEnds 8 = .ok (.iaload, 1) := dk_46 (dk_at dksX9_behindEnds_0 8 rfl rfl)
theorem dX9_behindEnds_9 : decode cX9_behindEnds 9 = .ok (.if_icmp .ge 102, 3) := dk_162 0 102 (dk_at dksX9_behindEnds_0 9 rfl rfl)
theorem dX9_behindEnds_12 : decode cX9_behindEnds 12 = .ok (.aload_n 0, 1) := dk_42 (dk_at dksX9_behindEnds_0 12 rfl rfl)
theorem dX9_behindEnds_13 : decode cX9_behindEnds 13 = .ok (.getfield 7, 3) := dk_180 0 7 (dk_at dksX9_behindEnds_0 13 rfl rfl)
theorem dX9_behindEnds_16 : decode cX9_behindEnds 16 = .ok (.bipush 120, 2) := dk_16 120 (dk_at dksX9_behindEnds_0 16 rfl rfl)
theorem dX9_behindEnds_18 : decode cX9_behindEnds 18 = .ok (.iconst 5, 1) := dk_8 (dk_at dksX9_behindEnds_0 18 rfl rfl)
theorem dX9_behindEnds_19 : decode cX9_behindEnds 19 = .ok (.iload_n 2, 1) := dk_28 (dk_at dksX9_behindEnds_0 19 rfl rfl)
theorem dX9_behindEnds_20 : decode cX9_behindEnds 20 = .ok (.imul, 1) := dk_104 (dk_at dksX9_behindEnds_0 20 rfl rfl)
theorem dX9_behindEnds_21 : decode cX9_behindEnds 21 = .ok (.iadd, 1) := dk_96 (dk_at dksX9_behindEnds_0 21 rfl rfl)
theorem dX9_behindEnds_22 : decode cX9_behindEnds 22 = .ok (.iaload, 1) := dk_46 (dk_at dksX9_behindEnds_0 22 rfl rfl)
theorem dX9_behindEnds_23 : decode cX9_behindEnds 23 = .ok (.bipush 28, 2) := dk_16 28 (dk_at dksX9_behindEnds_1 0 rfl rfl)
theorem dX9_behindEnds_25 : decode cX9_behindEnds 25 = .ok (.if_icmp .ne 86, 3) := dk_160 0 86 (dk_at dksX9_behindEnds_1 2 rfl rfl)
theorem dX9_behindEnds_28 : decode cX9_behindEnds 28 = .ok (.aload_n 0, 1) := dk_42 (dk_at dksX9_behindEnds_1 5 rfl rfl)
theorem dX9_behindEnds_29 : decode cX9_behindEnds 29 = .ok (.getfield 7, 3) := dk_180 0 7 (dk_at dksX9_behindEnds_1 6 rfl rfl)
theorem dX9_behindEnds_32 : decode cX9_behindEnds 32 = .ok (.bipush 120, 2) := dk_16 120 (dk_at dksX9_behindEnds_1 9 rfl rfl)
theorem dX9_behindEnds_34 : decode cX9_behindEnds 34 = .ok (.iconst 5, 1) := dk_8 (dk_at dksX9_behindEnds_1 11 rfl rfl)
theorem dX9_behindEnds_35 : decode cX9_behindEnds 35 = .ok (.iload_n 2, 1) := dk_28 (dk_at dksX9_behindEnds_1 12 rfl rfl)
theorem dX9_behindEnds_36 : decode cX9_behindEnds 36 = .ok (.imul, 1) := dk_104 (dk_at dksX9_behindEnds_1 13 rfl rfl)
theorem dX9_behindEnds_37 : decode cX9_behindEnds 37 = .ok (.iadd, 1) := dk_96 (dk_at dksX9_behindEnds_1 14 rfl rfl)
theorem dX9_behindEnds_38 : decode cX9_behindEnds 38 = .ok (.iconst 4, 1) := dk_7 (dk_at dksX9_behindEnds_1 15 rfl rfl)
theorem dX9_behindEnds_39 : decode cX9_behindEnds 39 = .ok (.iadd, 1) := dk_96 (dk_at dksX9_behindEnds_1 16 rfl rfl)
theorem dX9_behindEnds_40 : decode cX9_behindEnds 40 = .ok (.iaload, 1) := dk_46 (dk_at dksX9_behindEnds_1 17 rfl rfl)
theorem dX9_behindEnds_41 : decode cX9_behindEnds 41 = .ok (.istore_n 3, 1) := dk_62 (dk_at dksX9_behindEnds_1 18 rfl rfl)
theorem dX9_behindEnds_42 : decode cX9_behindEnds 42 = .ok (.aload_n 0, 1) := dk_42 (dk_at dksX9_behindEnds_1 19 rfl rfl)
theorem dX9_behindEnds_43 : decode cX9_behindEnds 43 = .ok (.getfield 7, 3) := dk_180 0 7 (dk_at dksX9_behindEnds_1 20 rfl rfl)
theorem dX9_behindEnds_46 : decode cX9_behindEnds 46 = .ok (.bipush 120, 2) := dk_16 120 (dk_at dksX9_behindEnds_2 0 rfl rfl)
theorem dX9_behindEnds_48 : decode cX9_behindEnds 48 = .ok (.iconst 5, 1) := dk_8 (dk_at dksX9_behindEnds_2 2 rfl rfl)
theorem dX9_behindEnds_49 : decode cX9_behindEnds 49 = .ok (.iload_n 3, 1) := dk_29 (dk_at dksX9_behindEnds_2 3 rfl rfl)
theorem dX9_behindEnds_50 : decode cX9_behindEnds 50 = .ok (.imul, 1) := dk_104 (dk_at dksX9_behindEnds_2 4 rfl rfl)
theorem dX9_behindEnds_51 : decode cX9_behindEnds 51 = .ok (.iadd, 1) := dk_96 (dk_at dksX9_behindEnds_2 5 rfl rfl)
theorem dX9_behindEnds_52 : decode cX9_behindEnds 52 = .ok (.iaload, 1) := dk_46 (dk_at dksX9_behindEnds_2 6 rfl rfl)
theorem dX9_behindEnds_53 : decode cX9_behindEnds 53 = .ok (.bipush 27, 2) := dk_16 27 (dk_at dksX9_behindEnds_2 7 rfl rfl)
theorem dX9_behindEnds_55 : decode cX9_behindEnds 55 = .ok (.if_icmp .ne 16, 3) := dk_160 0 16 (dk_at dksX9_behindEnds_2 9 rfl rfl)
theorem dX9_behindEnds_58 : decode cX9_behindEnds 58 = .ok (.aload_n 0, 1) := dk_42 (dk_at dksX9_behindEnds_2 12 rfl rfl)
theorem dX9_behindEnds_59 : decode cX9_behindEnds 59 = .ok (.getfield 85, 3) := dk_180 0 85 (dk_at dksX9_behindEnds_2 13 rfl rfl)
theorem dX9_behindEnds_62 : decode cX9_behindEnds 62 = .ok (.iload_n 3, 1) := dk_29 (dk_at dksX9_behindEnds_2 16 rfl rfl)
theorem dX9_behindEnds_63 : decode cX9_behindEnds 63 = .ok (.iaload, 1) := dk_46 (dk_at dksX9_behindEnds_2 17 rfl rfl)
theorem dX9_behindEnds_64 : decode cX9_behindEnds 64 = .ok (.ifCond .le 7, 3) := dk_158 0 7 (dk_at dksX9_behindEnds_2 18 rfl rfl)
theorem dX9_behindEnds_67 : decode cX9_behindEnds 67 = .ok (.iconst 1, 1) := dk_4 (dk_at dksX9_behindEnds_2 21 rfl rfl)
theorem dX9_behindEnds_68 : decode cX9_behindEnds 68 = .ok (.goto 4, 3) := dk_167 0 4 (dk_at dksX9_behindEnds_3 0 rfl rfl)
theorem dX9_behindEnds_71 : decode cX9_behindEnds 71 = .ok (.iconst 0, 1) := dk_3 (dk_at dksX9_behindEnds_3 3 rfl rfl)
theorem dX9_behindEnds_72 : decode cX9_behindEnds 72 = .ok (.istore 4, 2) := dk_54 4 (dk_at dksX9_behindEnds_3 4 rfl rfl)
theorem dX9_behindEnds_74 : decode cX9_behindEnds 74 = .ok (.aload_n 0, 1) := dk_42 (dk_at dksX9_behindEnds_3 6 rfl rfl)
theorem dX9_behindEnds_75 : decode cX9_behindEnds 75 = .ok (.getfield 85, 3) := dk_180 0 85 (dk_at dksX9_behindEnds_3 7 rfl rfl)
theorem dX9_behindEnds_78 : decode cX9_behindEnds 78 = .ok (.iload_n 3, 1) := dk_29 (dk_at dksX9_behindEnds_3 10 rfl rfl)
theorem dX9_behindEnds_79 : decode cX9_behindEnds 79 = .ok (.dup2, 1) := dk_92 (dk_at dksX9_behindEnds_3 11 rfl rfl)
theorem dX9_behindEnds_80 : decode cX9_behindEnds 80 = .ok (.iaload, 1) := dk_46 (dk_at dksX9_behindEnds_3 12 rfl rfl)
theorem dX9_behindEnds_81 : decode cX9_behindEnds 81 = .ok (.iload 4, 2) := dk_21 4 (dk_at dksX9_behindEnds_3 13 rfl rfl)
theorem dX9_behindEnds_83 : decode cX9_behindEnds 83 = .ok (.ifCond .eq 7, 3) := dk_153 0 7 (dk_at dksX9_behindEnds_3 15 rfl rfl)
theorem dX9_behindEnds_86 : decode cX9_behindEnds 86 = .ok (.iconst 1, 1) := dk_4 (dk_at dksX9_behindEnds_3 18 rfl rfl)
theorem dX9_behindEnds_87 : decode cX9_behindEnds 87 = .ok (.goto 4, 3) := dk_167 0 4 (dk_at dksX9_behindEnds_3 19 rfl rfl)
theorem dX9_behindEnds_90 : decode cX9_behindEnds 90 = .ok (.iconst 0, 1) := dk_3 (dk_at dksX9_behindEnds_3 22 rfl rfl)
theorem dX9_behindEnds_91 : decode cX9_behindEnds 91 = .ok (.isub, 1) := dk_100 (dk_at dksX9_behindEnds_3 23 rfl rfl)
theorem dX9_behindEnds_92 : decode cX9_behindEnds 92 = .ok (.iastore, 1) := dk_79 (dk_at dksX9_behindEnds_4 0 rfl rfl)
theorem dX9_behindEnds_93 : decode cX9_behindEnds 93 = .ok (.iload 4, 2) := dk_21 4 (dk_at dksX9_behindEnds_4 1 rfl rfl)
theorem dX9_behindEnds_95 : decode cX9_behindEnds 95 = .ok (.ifCond .eq 9, 3) := dk_153 0 9 (dk_at dksX9_behindEnds_4 3 rfl rfl)
theorem dX9_behindEnds_98 : decode cX9_behindEnds 98 = .ok (.iload_n 3, 1) := dk_29 (dk_at dksX9_behindEnds_4 6 rfl rfl)
theorem dX9_behindEnds_99 : decode cX9_behindEnds 99 = .ok (.iconst 1, 1) := dk_4 (dk_at dksX9_behindEnds_4 7 rfl rfl)
theorem dX9_behindEnds_100 : decode cX9_behindEnds 100 = .ok (.iadd, 1) := dk_96 (dk_at dksX9_behindEnds_4 8 rfl rfl)
theorem dX9_behindEnds_101 : decode cX9_behindEnds 101 = .ok (.goto 6, 3) := dk_167 0 6 (dk_at dksX9_behindEnds_4 9 rfl rfl)
theorem dX9_behindEnds_104 : decode cX9_behindEnds 104 = .ok (.iload_n 2, 1) := dk_28 (dk_at dksX9_behindEnds_4 12 rfl rfl)
theorem dX9_behindEnds_105 : decode cX9_behindEnds 105 = .ok (.iconst 1, 1) := dk_4 (dk_at dksX9_behindEnds_4 13 rfl rfl)
theorem dX9_behindEnds_106 : decode cX9_behindEnds 106 = .ok (.iadd, 1) := dk_96 (dk_at dksX9_behindEnds_4 14 rfl rfl)
theorem dX9_behindEnds_107 : decode cX9_behindEnds 107 = .ok (.istore_n 2, 1) := dk_61 (dk_at dksX9_behindEnds_4 15 rfl rfl)
theorem dX9_behindEnds_108 : decode cX9_behindEnds 108 = .ok (.goto (-106), 3) := dk_167 255 150 (dk_at dksX9_behindEnds_4 16 rfl rfl)
theorem dX9_behindEnds_111 : decode cX9_behindEnds 111 = .ok (.iload_n 2, 1) := dk_28 (dk_at dksX9_behindEnds_4 19 rfl rfl)
theorem dX9_behindEnds_112 : decode cX9_behindEnds 112 = .ok (.ireturn, 1) := dk_172 (dk_at dksX9_behindEnds_4 20 rfl rfl)
abbrev cX9_ran : ByteArray := prog_21_method_129_code
def yX9_ran : MethodName := ⟨RX9, "ran", "(I)I"⟩
def dkwX9_ran_1 : List UInt8 := [160, 0, 12, 42, 16, 6, 182, 0, 103, 167, 0, 13, 42, 42, 180, 0, 88, 27, 46, 182, 0, 107, 172]
abbrev dktX9_ran_1 : List UInt8 := dkwX9_ran_1 ++ []
def dkwX9_ran_0 : List UInt8 := [27, 155, 0, 8, 27, 8, 164, 0, 11, 42, 4, 182, 0, 103, 167, 0, 30, 42, 180, 0, 94, 2]
abbrev dktX9_ran_0 : List UInt8 := dkwX9_ran_0 ++ dktX9_ran_1
theorem dksX9_ran_0 : cX9_ran.data.toList.drop 0 = dktX9_ran_0 := by decide +kernel
theorem dksX9_ran_1 : cX9_ran.data.toList.drop 22 = dktX9_ran_1 := dk_seg dksX9_ran_0 22 rfl rfl
theorem dX9_ran_0 : decode cX9_ran 0 = .ok (.iload_n 1, 1) := dk_27 (dk_at dksX9_ran_0 0 rfl rfl)
theorem dX9_ran_1 : decode cX9_ran 1 = .ok (.ifCond .lt 8, 3) := dk_155 0 8 (dk_at dksX9_ran_0 1 rfl rfl)
theorem dX9_ran_4 : decode cX9_ran 4 = .ok (.iload_n 1, 1) := dk_27 (dk_at dksX9_ran_0 4 rfl rfl)
theorem dX9_ran_5 : decode cX9_ran 5 = .ok (.iconst 5, 1) := dk_8 (dk_at dksX9_ran_0 5 rfl rfl)
theorem dX9_ran_6 : decode cX9_ran 6 = .ok (.if_icmp .le 11, 3) := dk_164 0 11 (dk_at dksX9_ran_0 6 rfl rfl)
theorem dX9_ran_9 : decode cX9_ran 9 = .ok (.aload_n 0, 1) := dk_42 (dk_at dksX9_ran_0 9 rfl rfl)
theorem dX9_ran_10 : decode cX9_ran 10 = .ok (.iconst 1, 1) := dk_4 (dk_at dksX9_ran_0 10 rfl rfl)
theorem dX9_ran_11 : decode cX9_ran 11 = .ok (.invokevirtual 103, 3) := dk_182 0 103 (dk_at dksX9_ran_0 11 rfl rfl)
theorem dX9_ran_14 : decode cX9_ran 14 = .ok (.goto 30, 3) := dk_167 0 30 (dk_at dksX9_ran_0 14 rfl rfl)
theorem dX9_ran_17 : decode cX9_ran 17 = .ok (.aload_n 0, 1) := dk_42 (dk_at dksX9_ran_0 17 rfl rfl)
theorem dX9_ran_18 : decode cX9_ran 18 = .ok (.getfield 94, 3) := dk_180 0 94 (dk_at dksX9_ran_0 18 rfl rfl)
theorem dX9_ran_21 : decode cX9_ran 21 = .ok (.iconst (-1), 1) := dk_2 (dk_at dksX9_ran_0 21 rfl rfl)
theorem dX9_ran_22 : decode cX9_ran 22 = .ok (.if_icmp .ne 12, 3) := dk_160 0 12 (dk_at dksX9_ran_1 0 rfl rfl)
theorem dX9_ran_25 : decode cX9_ran 25 = .ok (.aload_n 0, 1) := dk_42 (dk_at dksX9_ran_1 3 rfl rfl)
theorem dX9_ran_26 : decode cX9_ran 26 = .ok (.bipush 6, 2) := dk_16 6 (dk_at dksX9_ran_1 4 rfl rfl)
theorem dX9_ran_28 : decode cX9_ran 28 = .ok (.invokevirtual 103, 3) := dk_182 0 103 (dk_at dksX9_ran_1 6 rfl rfl)
theorem dX9_ran_31 : decode cX9_ran 31 = .ok (.goto 13, 3) := dk_167 0 13 (dk_at dksX9_ran_1 9 rfl rfl)
theorem dX9_ran_34 : decode cX9_ran 34 = .ok (.aload_n 0, 1) := dk_42 (dk_at dksX9_ran_1 12 rfl rfl)
theorem dX9_ran_35 : decode cX9_ran 35 = .ok (.aload_n 0, 1) := dk_42 (dk_at dksX9_ran_1 13 rfl rfl)
theorem dX9_ran_36 : decode cX9_ran 36 = .ok (.getfield 88, 3) := dk_180 0 88 (dk_at dksX9_ran_1 14 rfl rfl)
theorem dX9_ran_39 : decode cX9_ran 39 = .ok (.iload_n 1, 1) := dk_27 (dk_at dksX9_ran_1 17 rfl rfl)
theorem dX9_ran_40 : decode cX9_ran 40 = .ok (.iaload, 1) := dk_46 (dk_at dksX9_ran_1 18 rfl rfl)
theorem dX9_ran_41 : decode cX9_ran 41 = .ok (.invokevirtual 107, 3) := dk_182 0 107 (dk_at dksX9_ran_1 19 rfl rfl)
theorem dX9_ran_44 : decode cX9_ran 44 = .ok (.ireturn, 1) := dk_172 (dk_at dksX9_ran_1 22 rfl rfl)
abbrev cX9_ranAt : ByteArray := prog_21_method_130_code
def yX9_ranAt : MethodName := ⟨RX9, "ranAt", "(I)I"⟩
def dkwX9_ranAt_1 : List UInt8 := [161, 0, 12, 42, 16, 6, 182, 0, 103, 167, 0, 13, 42, 42, 180, 0, 91, 27, 46, 182, 0, 107, 172]
abbrev dktX9_ranAt_1 : List UInt8 := dkwX9_ranAt_1 ++ []
def dkwX9_ranAt_0 : List UInt8 := [27, 155, 0, 8, 27, 7, 161, 0, 11, 42, 4, 182, 0, 103, 167, 0, 30, 27, 42, 180, 0, 94]
abbrev dktX9_ranAt_0 : List UInt8 := dkwX9_ranAt_0 ++ dktX9_ranAt_1
theorem dksX9_ranAt_0 : cX9_ranAt.data.toList.drop 0 = dktX9_ranAt_0 := by decide +kernel
theorem dksX9_ranAt_1 : cX9_ranAt.data.toList.drop 22 = dktX9_ranAt_1 := dk_seg dksX9_ranAt_0 22 rfl rfl
theorem dX9_ranAt_0 : decode cX9_ranAt 0 = .ok (.iload_n 1, 1) := dk_27 (dk_at dksX9_ranAt_0 0 rfl rfl)
theorem dX9_ranAt_1 : decode cX9_ranAt 1 = .ok (.ifCond .lt 8, 3) := dk_155 0 8 (dk_at dksX9_ranAt_0 1 rfl rfl)
theorem dX9_ranAt_4 : decode cX9_ranAt 4 = .ok (.iload_n 1, 1) := dk_27 (dk_at dksX9_ranAt_0 4 rfl rfl)
theorem dX9_ranAt_5 : decode cX9_ranAt 5 = .ok (.iconst 4, 1) := dk_7 (dk_at dksX9_ranAt_0 5 rfl rfl)
theorem dX9_ranAt_6 : decode cX9_ranAt 6 = .ok (.if_icmp .lt 11, 3) := dk_161 0 11 (dk_at dksX9_ranAt_0 6 rfl rfl)
theorem dX9_ranAt_9 : decode cX9_ranAt 9 = .ok (.aload_n 0, 1) := dk_42 (dk_at dksX9_ranAt_0 9 rfl rfl)
theorem dX9_ranAt_10 : decode cX9_ranAt 10 = .ok (.iconst 1, 1) := dk_4 (dk_at dksX9_ranAt_0 10 rfl rfl)
theorem dX9_ranAt_11 : decode cX9_ranAt 11 = .ok (.invokevirtual 103, 3) := dk_182 0 103 (dk_at dksX9_ranAt_0 11 rfl rfl)
theorem dX9_ranAt_14 : decode cX9_ranAt 14 = .ok (.goto 30, 3) := dk_167 0 30 (dk_at dksX9_ranAt_0 14 rfl rfl)
theorem dX9_ranAt_17 : decode cX9_ranAt 17 = .ok (.iload_n 1, 1) := dk_27 (dk_at dksX9_ranAt_0 17 rfl rfl)
theorem dX9_ranAt_18 : decode cX9_ranAt 18 = .ok (.aload_n 0, 1) := dk_42 (dk_at dksX9_ranAt_0 18 rfl rfl)
theorem dX9_ranAt_19 : decode cX9_ranAt 19 = .ok (.getfield 94, 3) := dk_180 0 94 (dk_at dksX9_ranAt_0 19 rfl rfl)
theorem dX9_ranAt_22 : decode cX9_ranAt 22 = .ok (.if_icmp .lt 12, 3) := dk_161 0 12 (dk_at dksX9_ranAt_1 0 rfl rfl)
theorem dX9_ranAt_25 : decode cX9_ranAt 25 = .ok (.aload_n 0, 1) := dk_42 (dk_at dksX9_ranAt_1 3 rfl rfl)
theorem dX9_ranAt_26 : decode cX9_ranAt 26 = .ok (.bipush 6, 2) := dk_16 6 (dk_at dksX9_ranAt_1 4 rfl rfl)
theorem dX9_ranAt_28 : decode cX9_ranAt 28 = .ok (.invokevirtual 103, 3) := dk_182 0 103 (dk_at dksX9_ranAt_1 6 rfl rfl)
theorem dX9_ranAt_31 : decode cX9_ranAt 31 = .ok (.goto 13, 3) := dk_167 0 13 (dk_at dksX9_ranAt_1 9 rfl rfl)
theorem dX9_ranAt_34 : decode cX9_ranAt 34 = .ok (.aload_n 0, 1) := dk_42 (dk_at dksX9_ranAt_1 12 rfl rfl)
theorem dX9_ranAt_35 : decode cX9_ranAt 35 = .ok (.aload_n 0, 1) := dk_42 (dk_at dksX9_ranAt_1 13 rfl rfl)
theorem dX9_ranAt_36 : decode cX9_ranAt 36 = .ok (.getfield 91, 3) := dk_180 0 91 (dk_at dksX9_ranAt_1 14 rfl rfl)
theorem dX9_ranAt_39 : decode cX9_ranAt 39 = .ok (.iload_n 1, 1) := dk_27 (dk_at dksX9_ranAt_1 17 rfl rfl)
theorem dX9_ranAt_40 : decode cX9_ranAt 40 = .ok (.iaload, 1) := dk_46 (dk_at dksX9_ranAt_1 18 rfl rfl)
theorem dX9_ranAt_41 : decode cX9_ranAt 41 = .ok (.invokevirtual 107, 3) := dk_182 0 107 (dk_at dksX9_ranAt_1 19 rfl rfl)
theorem dX9_ranAt_44 : decode cX9_ranAt 44 = .ok (.ireturn, 1) := dk_172 (dk_at dksX9_ranAt_1 22 rfl rfl)
abbrev cX9_odds : ByteArray := prog_21_method_131_code
def yX9_odds : MethodName := ⟨RX9, "odds", "(II)Z"⟩
def dkwX9_odds_4 : List UInt8 := [167, 255, 224, 42, 29, 133, 28, 133, 182, 1, 214, 172]
abbrev dktX9_odds_4 : List UInt8 := dkwX9_odds_4 ++ []
def dkwX9_odds_3 : List UInt8 := [21, 4, 96, 182, 1, 211, 29, 42, 182, 1, 32, 153, 0, 7, 4, 167, 0, 4, 3, 96, 62, 132, 4, 1]
abbrev dktX9_odds_3 : List UInt8 := dkwX9_odds_3 ++ dktX9_odds_4
def dkwX9_odds_2 : List UInt8 := [160, 0, 10, 42, 16, 6, 182, 0, 110, 172, 3, 62, 3, 54, 4, 21, 4, 28, 162, 0, 32, 42, 27]
abbrev dktX9_odds_2 : List UInt8 := dkwX9_odds_2 ++ dktX9_odds_3
def dkwX9_odds_1 : List UInt8 := [27, 28, 96, 4, 100, 17, 39, 15, 164, 0, 9, 42, 4, 182, 0, 110, 172, 42, 180, 0, 7, 7, 46, 2]
abbrev dktX9_odds_1 : List UInt8 := dkwX9_odds_1 ++ dktX9_odds_2
def dkwX9_odds_0 : List UInt8 := [27, 133, 9, 20, 1, 168, 184, 1, 164, 153, 0, 26, 28, 133, 10, 20, 1, 162, 184, 1, 164, 153, 0, 14]
abbrev dktX9_odds_0 : List UInt8 := dkwX9_odds_0 ++ dktX9_odds_1
theorem dksX9_odds_0 : cX9_odds.data.toList.drop 0 = dktX9_odds_0 := by decide +kernel
theorem dksX9_odds_1 : cX9_odds.data.toList.drop 24 = dktX9_odds_1 := dk_seg dksX9_odds_0 24 rfl rfl
theorem dksX9_odds_2 : cX9_odds.data.toList.drop 48 = dktX9_odds_2 := dk_seg dksX9_odds_1 24 rfl rfl
theorem dksX9_odds_3 : cX9_odds.data.toList.drop 71 = dktX9_odds_3 := dk_seg dksX9_odds_2 23 rfl rfl
theorem dksX9_odds_4 : cX9_odds.data.toList.drop 95 = dktX9_odds_4 := dk_seg dksX9_odds_3 24 rfl rfl
theorem dX9_odds_0 : decode cX9_odds 0 = .ok (.iload_n 1, 1) := dk_27 (dk_at dksX9_odds_0 0 rfl rfl)
theorem dX9_odds_1 : decode cX9_odds 1 = .ok (.i2l, 1) := dk_133 (dk_at dksX9_odds_0 1 rfl rfl)
theorem dX9_odds_2 : decode cX9_odds 2 = .ok (.lconst 0, 1) := dk_9 (dk_at dksX9_odds_0 2 rfl rfl)
theorem dX9_odds_3 : decode cX9_odds 3 = .ok (.ldc2_w 424, 3) := dk_20 1 168 (dk_at dksX9_odds_0 3 rfl rfl)
theorem dX9_odds_6 : decode cX9_odds 6 = .ok (.invokestatic 420, 3) := dk_184 1 164 (dk_at dksX9_odds_0 6 rfl rfl)
theorem dX9_odds_9 : decode cX9_odds 9 = .ok (.ifCond .eq 26, 3) := dk_153 0 26 (dk_at dksX9_odds_0 9 rfl rfl)
theorem dX9_odds_12 : decode cX9_odds 12 = .ok (.iload_n 2, 1) := dk_28 (dk_at dksX9_odds_0 12 rfl rfl)
theorem dX9_odds_13 : decode cX9_odds 13 = .ok (.i2l, 1) := dk_133 (dk_at dksX9_odds_0 13 rfl rfl)
theorem dX9_odds_14 : decode cX9_odds 14 = .ok (.lconst 1, 1) := dk_10 (dk_at dksX9_odds_0 14 rfl rfl)
theorem dX9_odds_15 : decode cX9_odds 15 = .ok (.ldc2_w 418, 3) := dk_20 1 162 (dk_at dksX9_odds_0 15 rfl rfl)
theorem dX9_odds_18 : decode cX9_odds 18 = .ok (.invokestatic 420, 3) := dk_184 1 164 (dk_at dksX9_odds_0 18 rfl rfl)
theorem dX9_odds_21 : decode cX9_odds 21 = .ok (.ifCond .eq 14, 3) := dk_153 0 14 (dk_at dksX9_odds_0 21 rfl rfl)
theorem dX9_odds_24 : decode cX9_odds 24 = .ok (.iload_n 1, 1) := dk_27 (dk_at dksX9_odds_1 0 rfl rfl)
theorem dX9_odds_25 : decode cX9_odds 25 = .ok (.iload_n 2, 1) := dk_28 (dk_at dksX9_odds_1 1 rfl rfl)
theorem dX9_odds_26 : decode cX9_odds 26 = .ok (.iadd, 1) := dk_96 (dk_at dksX9_odds_1 2 rfl rfl)
theorem dX9_odds_27 : decode cX9_odds 27 = .ok (.iconst 1, 1) := dk_4 (dk_at dksX9_odds_1 3 rfl rfl)
theorem dX9_odds_28 : decode cX9_odds 28 = .ok (.isub, 1) := dk_100 (dk_at dksX9_odds_1 4 rfl rfl)
theorem dX9_odds_29 : decode cX9_odds 29 = .ok (.sipush 9999, 3) := dk_17 39 15 (dk_at dksX9_odds_1 5 rfl rfl)
theorem dX9_odds_32 : decode cX9_odds 32 = .ok (.if_icmp .le 9, 3) := dk_164 0 9 (dk_at dksX9_odds_1 8 rfl rfl)
theorem dX9_odds_35 : decode cX9_odds 35 = .ok (.aload_n 0, 1) := dk_42 (dk_at dksX9_odds_1 11 rfl rfl)
theorem dX9_odds_36 : decode cX9_odds 36 = .ok (.iconst 1, 1) := dk_4 (dk_at dksX9_odds_1 12 rfl rfl)
theorem dX9_odds_37 : decode cX9_odds 37 = .ok (.invokevirtual 110, 3) := dk_182 0 110 (dk_at dksX9_odds_1 13 rfl rfl)
theorem dX9_odds_40 : decode cX9_odds 40 = .ok (.ireturn, 1) := dk_172 (dk_at dksX9_odds_1 16 rfl rfl)
theorem dX9_odds_41 : decode cX9_odds 41 = .ok (.aload_n 0, 1) := dk_42 (dk_at dksX9_odds_1 17 rfl rfl)
theorem dX9_odds_42 : decode cX9_odds 42 = .ok (.getfield 7, 3) := dk_180 0 7 (dk_at dksX9_odds_1 18 rfl rfl)
theorem dX9_odds_45 : decode cX9_odds 45 = .ok (.iconst 4, 1) := dk_7 (dk_at dksX9_odds_1 21 rfl rfl)
theorem dX9_odds_46 : decode cX9_odds 46 = .ok (.iaload, 1) := dk_46 (dk_at dksX9_odds_1 22 rfl rfl)
theorem dX9_odds_47 : decode cX9_odds 47 = .ok (.iconst (-1), 1) := dk_2 (dk_at dksX9_odds_1 23 rfl rfl)
theorem dX9_odds_48 : decode cX9_odds 48 = .ok (.if_icmp .ne 10, 3) := dk_160 0 10 (dk_at dksX9_odds_2 0 rfl rfl)
theorem dX9_odds_51 : decode cX9_odds 51 = .ok (.aload_n 0, 1) := dk_42 (dk_at dksX9_odds_2 3 rfl rfl)
theorem dX9_odds_52 : decode cX9_odds 52 = .ok (.bipush 6, 2) := dk_16 6 (dk_at dksX9_odds_2 4 rfl rfl)
theorem dX9_odds_54 : decode cX9_odds 54 = .ok (.invokevirtual 110, 3) := dk_182 0 110 (dk_at dksX9_odds_2 6 rfl rfl)
theorem dX9_odds_57 : decode cX9_odds 57 = .ok (.ireturn, 1) := dk_172 (dk_at dksX9_odds_2 9 rfl rfl)
theorem dX9_odds_58 : decode cX9_odds 58 = .ok (.iconst 0, 1) := dk_3 (dk_at dksX9_odds_2 10 rfl rfl)
theorem dX9_odds_59 : decode cX9_odds 59 = .ok (.istore_n 3, 1) := dk_62 (dk_at dksX9_odds_2 11 rfl rfl)
theorem dX9_odds_60 : decode cX9_odds 60 = .ok (.iconst 0, 1) := dk_3 (dk_at dksX9_odds_2 12 rfl rfl)
theorem dX9_odds_61 : decode cX9_odds 61 = .ok (.istore 4, 2) := dk_54 4 (dk_at dksX9_odds_2 13 rfl rfl)
theorem dX9_odds_63 : decode cX9_odds 63 = .ok (.iload 4, 2) := dk_21 4 (dk_at dksX9_odds_2 15 rfl rfl)
theorem dX9_odds_65 : decode cX9_odds 65 = .ok (.iload_n 2, 1) := dk_28 (dk_at dksX9_odds_2 17 rfl rfl)
theorem dX9_odds_66 : decode cX9_odds 66 = .ok (.if_icmp .ge 32, 3) := dk_162 0 32 (dk_at dksX9_odds_2 18 rfl rfl)
theorem dX9_odds_69 : decode cX9_odds 69 = .ok (.aload_n 0, 1) := dk_42 (dk_at dksX9_odds_2 21 rfl rfl)
theorem dX9_odds_70 : decode cX9_odds 70 = .ok (.iload_n 1, 1) := dk_27 (dk_at dksX9_odds_2 22 rfl rfl)
theorem dX9_odds_71 : decode cX9_odds 71 = .ok (.iload 4, 2) := dk_21 4 (dk_at dksX9_odds_3 0 rfl rfl)
theorem dX9_odds_73 : decode cX9_odds 73 = .ok (.iadd, 1) := dk_96 (dk_at dksX9_odds_3 2 rfl rfl)
theorem dX9_odds_74 : decode cX9_odds 74 = .ok (.invokevirtual 467, 3) := dk_182 1 211 (dk_at dksX9_odds_3 3 rfl rfl)
theorem dX9_odds_77 : decode cX9_odds 77 = .ok (.iload_n 3, 1) := dk_29 (dk_at dksX9_odds_3 6 rfl rfl)
theorem dX9_odds_78 : decode cX9_odds 78 = .ok (.aload_n 0, 1) := dk_42 (dk_at dksX9_odds_3 7 rfl rfl)
theorem dX9_odds_79 : decode cX9_odds 79 = .ok (.invokevirtual 288, 3) := dk_182 1 32 (dk_at dksX9_odds_3 8 rfl rfl)
theorem dX9_odds_82 : decode cX9_odds 82 = .ok (.ifCond .eq 7, 3) := dk_153 0 7 (dk_at dksX9_odds_3 11 rfl rfl)
theorem dX9_odds_85 : decode cX9_odds 85 = .ok (.iconst 1, 1) := dk_4 (dk_at dksX9_odds_3 14 rfl rfl)
theorem dX9_odds_86 : decode cX9_odds 86 = .ok (.goto 4, 3) := dk_167 0 4 (dk_at dksX9_odds_3 15 rfl rfl)
theorem dX9_odds_89 : decode cX9_odds 89 = .ok (.iconst 0, 1) := dk_3 (dk_at dksX9_odds_3 18 rfl rfl)
theorem dX9_odds_90 : decode cX9_odds 90 = .ok (.iadd, 1) := dk_96 (dk_at dksX9_odds_3 19 rfl rfl)
theorem dX9_odds_91 : decode cX9_odds 91 = .ok (.istore_n 3, 1) := dk_62 (dk_at dksX9_odds_3 20 rfl rfl)
theorem dX9_odds_92 : decode cX9_odds 92 = .ok (.iinc 4 1, 3) := dk_132 4 1 (dk_at dksX9_odds_3 21 rfl rfl)
theorem dX9_odds_95 : decode cX9_odds 95 = .ok (.goto (-32), 3) := dk_167 255 224 (dk_at dksX9_odds_4 0 rfl rfl)
theorem dX9_odds_98 : decode cX9_odds 98 = .ok (.aload_n 0, 1) := dk_42 (dk_at dksX9_odds_4 3 rfl rfl)
theorem dX9_odds_99 : decode cX9_odds 99 = .ok (.iload_n 3, 1) := dk_29 (dk_at dksX9_odds_4 4 rfl rfl)
theorem dX9_odds_100 : decode cX9_odds 100 = .ok (.i2l, 1) := dk_133 (dk_at dksX9_odds_4 5 rfl rfl)
theorem dX9_odds_101 : decode cX9_odds 101 = .ok (.iload_n 2, 1) := dk_28 (dk_at dksX9_odds_4 6 rfl rfl)
theorem dX9_odds_102 : decode cX9_odds 102 = .ok (.i2l, 1) := dk_133 (dk_at dksX9_odds_4 7 rfl rfl)
theorem dX9_odds_103 : decode cX9_odds 103 = .ok (.invokevirtual 470, 3) := dk_182 1 214 (dk_at dksX9_odds_4 8 rfl rfl)
theorem dX9_odds_106 : decode cX9_odds 106 = .ok (.ireturn, 1) := dk_172 (dk_at dksX9_odds_4 11 rfl rfl)
abbrev cX9_tellsBy : ByteArray := prog_21_method_9_code
def yX9_tellsBy : MethodName := ⟨RX9, "tellsBy", "(JJ)Z"⟩
def dkwX9_tellsBy_2 : List UInt8 := [3, 182, 0, 110, 172]
abbrev dktX9_tellsBy_2 : List UInt8 := dkwX9_tellsBy_2 ++ []
def dkwX9_tellsBy_1 : List UInt8 := [22, 9, 55, 7, 167, 255, 234, 42, 31, 22, 5, 109, 181, 0, 100, 42, 33, 22, 5, 109, 181, 0, 17, 42]
abbrev dktX9_tellsBy_1 : List UInt8 := dkwX9_tellsBy_1 ++ dktX9_tellsBy_2
def dkwX9_tellsBy_0 : List UInt8 := [31, 55, 5, 33, 55, 7, 22, 7, 9, 148, 153, 0, 21, 22, 5, 22, 7, 113, 55, 9, 22, 7, 55, 5]
abbrev dktX9_tellsBy_0 : List UInt8 := dkwX9_tellsBy_0 ++ dktX9_tellsBy_1
theorem dksX9_tellsBy_0 : cX9_tellsBy.data.toList.drop 0 = dktX9_tellsBy_0 := by decide +kernel
theorem dksX9_tellsBy_1 : cX9_tellsBy.data.toList.drop 24 = dktX9_tellsBy_1 := dk_seg dksX9_tellsBy_0 24 rfl rfl
theorem dksX9_tellsBy_2 : cX9_tellsBy.data.toList.drop 48 = dktX9_tellsBy_2 := dk_seg dksX9_tellsBy_1 24 rfl rfl
theorem dX9_tellsBy_0 : decode cX9_tellsBy 0 = .ok (.lload_n 1, 1) := dk_31 (dk_at dksX9_tellsBy_0 0 rfl rfl)
theorem dX9_tellsBy_1 : decode cX9_tellsBy 1 = .ok (.lstore 5, 2) := dk_55 5 (dk_at dksX9_tellsBy_0 1 rfl rfl)
theorem dX9_tellsBy_3 : decode cX9_tellsBy 3 = .ok (.lload_n 3, 1) := dk_33 (dk_at dksX9_tellsBy_0 3 rfl rfl)
theorem dX9_tellsBy_4 : decode cX9_tellsBy 4 = .ok (.lstore 7, 2) := dk_55 7 (dk_at dksX9_tellsBy_0 4 rfl rfl)
theorem dX9_tellsBy_6 : decode cX9_tellsBy 6 = .ok (.lload 7, 2) := dk_22 7 (dk_at dksX9_tellsBy_0 6 rfl rfl)
theorem dX9_tellsBy_8 : decode cX9_tellsBy 8 = .ok (.lconst 0, 1) := dk_9 (dk_at dksX9_tellsBy_0 8 rfl rfl)
theorem dX9_tellsBy_9 : decode cX9_tellsBy 9 = .ok (.lcmp, 1) := dk_148 (dk_at dksX9_tellsBy_0 9 rfl rfl)
theorem dX9_tellsBy_10 : decode cX9_tellsBy 10 = .ok (.ifCond .eq 21, 3) := dk_153 0 21 (dk_at dksX9_tellsBy_0 10 rfl rfl)
theorem dX9_tellsBy_13 : decode cX9_tellsBy 13 = .ok (.lload 5, 2) := dk_22 5 (dk_at dksX9_tellsBy_0 13 rfl rfl)
theorem dX9_tellsBy_15 : decode cX9_tellsBy 15 = .ok (.lload 7, 2) := dk_22 7 (dk_at dksX9_tellsBy_0 15 rfl rfl)
theorem dX9_tellsBy_17 : decode cX9_tellsBy 17 = .ok (.lrem, 1) := dk_113 (dk_at dksX9_tellsBy_0 17 rfl rfl)
theorem dX9_tellsBy_18 : decode cX9_tellsBy 18 = .ok (.lstore 9, 2) := dk_55 9 (dk_at dksX9_tellsBy_0 18 rfl rfl)
theorem dX9_tellsBy_20 : decode cX9_tellsBy 20 = .ok (.lload 7, 2) := dk_22 7 (dk_at dksX9_tellsBy_0 20 rfl rfl)
theorem dX9_tellsBy_22 : decode cX9_tellsBy 22 = .ok (.lstore 5, 2) := dk_55 5 (dk_at dksX9_tellsBy_0 22 rfl rfl)
theorem dX9_tellsBy_24 : decode cX9_tellsBy 24 = .ok (.lload 9, 2) := dk_22 9 (dk_at dksX9_tellsBy_1 0 rfl rfl)
theorem dX9_tellsBy_26 : decode cX9_tellsBy 26 = .ok (.lstore 7, 2) := dk_55 7 (dk_at dksX9_tellsBy_1 2 rfl rfl)
theorem dX9_tellsBy_28 : decode cX9_tellsBy 28 = .ok (.goto (-22), 3) := dk_167 255 234 (dk_at dksX9_tellsBy_1 4 rfl rfl)
theorem dX9_tellsBy_31 : decode cX9_tellsBy 31 = .ok (.aload_n 0, 1) := dk_42 (dk_at dksX9_tellsBy_1 7 rfl rfl)
theorem dX9_tellsBy_32 : decode cX9_tellsBy 32 = .ok (.lload_n 1, 1) := dk_31 (dk_at dksX9_tellsBy_1 8 rfl rfl)
theorem dX9_tellsBy_33 : decode cX9_tellsBy 33 = .ok (.lload 5, 2) := dk_22 5 (dk_at dksX9_tellsBy_1 9 rfl rfl)
theorem dX9_tellsBy_35 : decode cX9_tellsBy 35 = .ok (.ldiv, 1) := dk_109 (dk_at dksX9_tellsBy_1 11 rfl rfl)
theorem dX9_tellsBy_36 : decode cX9_tellsBy 36 = .ok (.putfield 100, 3) := dk_181 0 100 (dk_at dksX9_tellsBy_1 12 rfl rfl)
theorem dX9_tellsBy_39 : decode cX9_tellsBy 39 = .ok (.aload_n 0, 1) := dk_42 (dk_at dksX9_tellsBy_1 15 rfl rfl)
theorem dX9_tellsBy_40 : decode cX9_tellsBy 40 = .ok (.lload_n 3, 1) := dk_33 (dk_at dksX9_tellsBy_1 16 rfl rfl)
theorem dX9_tellsBy_41 : decode cX9_tellsBy 41 = .ok (.lload 5, 2) := dk_22 5 (dk_at dksX9_tellsBy_1 17 rfl rfl)
theorem dX9_tellsBy_43 : decode cX9_tellsBy 43 = .ok (.ldiv, 1) := dk_109 (dk_at dksX9_tellsBy_1 19 rfl rfl)
theorem dX9_tellsBy_44 : decode cX9_tellsBy 44 = .ok (.putfield 17, 3) := dk_181 0 17 (dk_at dksX9_tellsBy_1 20 rfl rfl)
theorem dX9_tellsBy_47 : decode cX9_tellsBy 47 = .ok (.aload_n 0, 1) := dk_42 (dk_at dksX9_tellsBy_1 23 rfl rfl)
theorem dX9_tellsBy_48 : decode cX9_tellsBy 48 = .ok (.iconst 0, 1) := dk_3 (dk_at dksX9_tellsBy_2 0 rfl rfl)
theorem dX9_tellsBy_49 : decode cX9_tellsBy 49 = .ok (.invokevirtual 110, 3) := dk_182 0 110 (dk_at dksX9_tellsBy_2 1 rfl rfl)
theorem dX9_tellsBy_52 : decode cX9_tellsBy 52 = .ok (.ireturn, 1) := dk_172 (dk_at dksX9_tellsBy_2 4 rfl rfl)
abbrev cX9_mark : ByteArray := prog_21_method_133_code
def yX9_mark : MethodName := ⟨RX9, "mark", "()I"⟩
def dkwX9_mark_1 : List UInt8 := [42, 3, 42, 180, 1, 218, 182, 1, 221, 42, 42, 180, 1, 218, 182, 0, 107, 172]
abbrev dktX9_mark_1 : List UInt8 := dkwX9_mark_1 ++ []
def dkwX9_mark_0 : List UInt8 := [42, 180, 1, 218, 6, 160, 0, 9, 42, 7, 182, 0, 103, 172, 42, 89, 180, 1, 218, 4, 96, 181, 1, 218]
abbrev dktX9_mark_0 : List UInt8 := dkwX9_mark_0 ++ dktX9_mark_1
theorem dksX9_mark_0 : cX9_mark.data.toList.drop 0 = dktX9_mark_0 := by decide +kernel
theorem dksX9_mark_1 : cX9_mark.data.toList.drop 24 = dktX9_mark_1 := dk_seg dksX9_mark_0 24 rfl rfl
theorem dX9_mark_0 : decode cX9_mark 0 = .ok (.aload_n 0, 1) := dk_42 (dk_at dksX9_mark_0 0 rfl rfl)
theorem dX9_mark_1 : decode cX9_mark 1 = .ok (.getfield 474, 3) := dk_180 1 218 (dk_at dksX9_mark_0 1 rfl rfl)
theorem dX9_mark_4 : decode cX9_mark 4 = .ok (.iconst 3, 1) := dk_6 (dk_at dksX9_mark_0 4 rfl rfl)
theorem dX9_mark_5 : decode cX9_mark 5 = .ok (.if_icmp .ne 9, 3) := dk_160 0 9 (dk_at dksX9_mark_0 5 rfl rfl)
theorem dX9_mark_8 : decode cX9_mark 8 = .ok (.aload_n 0, 1) := dk_42 (dk_at dksX9_mark_0 8 rfl rfl)
theorem dX9_mark_9 : decode cX9_mark 9 = .ok (.iconst 4, 1) := dk_7 (dk_at dksX9_mark_0 9 rfl rfl)
theorem dX9_mark_10 : decode cX9_mark 10 = .ok (.invokevirtual 103, 3) := dk_182 0 103 (dk_at dksX9_mark_0 10 rfl rfl)
theorem dX9_mark_13 : decode cX9_mark 13 = .ok (.ireturn, 1) := dk_172 (dk_at dksX9_mark_0 13 rfl rfl)
theorem dX9_mark_14 : decode cX9_mark 14 = .ok (.aload_n 0, 1) := dk_42 (dk_at dksX9_mark_0 14 rfl rfl)
theorem dX9_mark_15 : decode cX9_mark 15 = .ok (.dup, 1) := dk_89 (dk_at dksX9_mark_0 15 rfl rfl)
theorem dX9_mark_16 : decode cX9_mark 16 = .ok (.getfield 474, 3) := dk_180 1 218 (dk_at dksX9_mark_0 16 rfl rfl)
theorem dX9_mark_19 : decode cX9_mark 19 = .ok (.iconst 1, 1) := dk_4 (dk_at dksX9_mark_0 19 rfl rfl)
theorem dX9_mark_20 : decode cX9_mark 20 = .ok (.iadd, 1) := dk_96 (dk_at dksX9_mark_0 20 rfl rfl)
theorem dX9_mark_21 : decode cX9_mark 21 = .ok (.putfield 474, 3) := dk_181 1 218 (dk_at dksX9_mark_0 21 rfl rfl)
theorem dX9_mark_24 : decode cX9_mark 24 = .ok (.aload_n 0, 1) := dk_42 (dk_at dksX9_mark_1 0 rfl rfl)
theorem dX9_mark_25 : decode cX9_mark 25 = .ok (.iconst 0, 1) := dk_3 (dk_at dksX9_mark_1 1 rfl rfl)
theorem dX9_mark_26 : decode cX9_mark 26 = .ok (.aload_n 0, 1) := dk_42 (dk_at dksX9_mark_1 2 rfl rfl)
theorem dX9_mark_27 : decode cX9_mark 27 = .ok (.getfield 474, 3) := dk_180 1 218 (dk_at dksX9_mark_1 3 rfl rfl)
theorem dX9_mark_30 : decode cX9_mark 30 = .ok (.invokevirtual 477, 3) := dk_182 1 221 (dk_at dksX9_mark_1 6 rfl rfl)
theorem dX9_mark_33 : decode cX9_mark 33 = .ok (.aload_n 0, 1) := dk_42 (dk_at dksX9_mark_1 9 rfl rfl)
theorem dX9_mark_34 : decode cX9_mark 34 = .ok (.aload_n 0, 1) := dk_42 (dk_at dksX9_mark_1 10 rfl rfl)
theorem dX9_mark_35 : decode cX9_mark 35 = .ok (.getfield 474, 3) := dk_180 1 218 (dk_at dksX9_mark_1 11 rfl rfl)
theorem dX9_mark_38 : decode cX9_mark 38 = .ok (.invokevirtual 107, 3) := dk_182 0 107 (dk_at dksX9_mark_1 14 rfl rfl)
theorem dX9_mark_41 : decode cX9_mark 41 = .ok (.ireturn, 1) := dk_172 (dk_at dksX9_mark_1 17 rfl rfl)
abbrev cX9_copies : ByteArray := prog_21_method_132_code
def yX9_copies : MethodName := ⟨RX9, "copies", "(II)V"⟩
def dkwX9_copies_3 : List UInt8 := [167, 255, 225, 177]
abbrev dktX9_copies_3 : List UInt8 := dkwX9_copies_3 ++ []
def dkwX9_copies_2 : List UInt8 := [180, 0, 13, 16, 20, 28, 104, 29, 96, 42, 180, 0, 13, 16, 20, 27, 104, 29, 96, 47, 80, 132, 3, 1]
abbrev dktX9_copies_2 : List UInt8 := dkwX9_copies_2 ++ dktX9_copies_3
def dkwX9_copies_1 : List UInt8 := [17, 1, 174, 27, 104, 29, 96, 46, 79, 132, 3, 1, 167, 255, 222, 3, 62, 29, 16, 20, 162, 0, 31, 42]
abbrev dktX9_copies_1 : List UInt8 := dkwX9_copies_1 ++ dktX9_copies_2
def dkwX9_copies_0 : List UInt8 := [3, 62, 29, 17, 1, 174, 162, 0, 33, 42, 180, 0, 7, 17, 1, 174, 28, 104, 29, 96, 42, 180, 0, 7]
abbrev dktX9_copies_0 : List UInt8 := dkwX9_copies_0 ++ dktX9_copies_1
theorem dksX9_copies_0 : cX9_copies.data.toList.drop 0 = dktX9_copies_0 := by decide +kernel
theorem dksX9_copies_1 : cX9_copies.data.toList.drop 24 = dktX9_copies_1 := dk_seg dksX9_copies_0 24 rfl rfl
theorem dksX9_copies_2 : cX9_copies.data.toList.drop 48 = dktX9_copies_2 := dk_seg dksX9_copies_1 24 rfl rfl
theorem dksX9_copies_3 : cX9_copies.data.toList.drop 72 = dktX9_copies_3 := dk_seg dksX9_copies_2 24 rfl rfl
theorem dX9_copies_0 : decode cX9_copies 0 = .ok (.iconst 0, 1) := dk_3 (dk_at dksX9_copies_0 0 rfl rfl)
theorem dX9_copies_1 : decode cX9_copies 1 = .ok (.istore_n 3, 1) := dk_62 (dk_at dksX9_copies_0 1 rfl rfl)
theorem dX9_copies_2 : decode cX9_copies 2 = .ok (.iload_n 3, 1) := dk_29 (dk_at dksX9_copies_0 2 rfl rfl)
theorem dX9_copies_3 : decode cX9_copies 3 = .ok (.sipush 430, 3) := dk_17 1 174 (dk_at dksX9_copies_0 3 rfl rfl)
theorem dX9_copies_6 : decode cX9_copies 6 = .ok (.if_icmp .ge 33, 3) := dk_162 0 33 (dk_at dksX9_copies_0 6 rfl rfl)
theorem dX9_copies_9 : decode cX9_copies 9 = .ok (.aload_n 0, 1) := dk_42 (dk_at dksX9_copies_0 9 rfl rfl)
theorem dX9_copies_10 : decode cX9_copies 10 = .ok (.getfield 7, 3) := dk_180 0 7 (dk_at dksX9_copies_0 10 rfl rfl)
theorem dX9_copies_13 : decode cX9_copies 13 = .ok (.sipush 430, 3) := dk_17 1 174 (dk_at dksX9_copies_0 13 rfl rfl)
theorem dX9_copies_16 : decode cX9_copies 16 = .ok (.iload_n 2, 1) := dk_28 (dk_at dksX9_copies_0 16 rfl rfl)
theorem dX9_copies_17 : decode cX9_copies 17 = .ok (.imul, 1) := dk_104 (dk_at dksX9_copies_0 17 rfl rfl)
theorem dX9_copies_18 : decode cX9_copies 18 = .ok (.iload_n 3, 1) := dk_29 (dk_at dksX9_copies_0 18 rfl rfl)
theorem dX9_copies_19 : decode cX9_copies 19 = .ok (.iadd, 1) := dk_96 (dk_at dksX9_copies_0 19 rfl rfl)
theorem dX9_copies_20 : decode cX9_copies 20 = .ok (.aload_n 0, 1) := dk_42 (dk_at dksX9_copies_0 20 rfl rfl)
theorem dX9_copies_21 : decode cX9_copies 21 = .ok (.getfield 7, 3) := dk_180 0 7 (dk_at dksX9_copies_0 21 rfl rfl)
theorem dX9_copies_24 : decode cX9_copies 24 = .ok (.sipush 430, 3) := dk_17 1 174 (dk_at dksX9_copies_1 0 rfl rfl)
theorem dX9_copies_27 : decode cX9_copies 27 = .ok (.iload_n 1, 1) := dk_27 (dk_at dksX9_copies_1 3 rfl rfl)
theorem dX9_copies_28 : decode cX9_copies 28 = .ok (.imul, 1) := dk_104 (dk_at dksX9_copies_1 4 rfl rfl)
theorem dX9_copies_29 : decode cX9_copies 29 = .ok (.iload_n 3, 1) := dk_29 (dk_at dksX9_copies_1 5 rfl rfl)
theorem dX9_copies_30 : decode cX9_copies 30 = .ok (.iadd, 1) := dk_96 (dk_at dksX9_copies_1 6 rfl rfl)
theorem dX9_copies_31 : decode cX9_copies 31 = .ok (.iaload, 1) := dk_46 (dk_at dksX9_copies_1 7 rfl rfl)
theorem dX9_copies_32 : decode cX9_copies 32 = .ok (.iastore, 1) := dk_79 (dk_at dksX9_copies_1 8 rfl rfl)
theorem dX9_copies_33 : decode cX9_copies 33 = .ok (.iinc 3 1, 3) := dk_132 3 1 (dk_at dksX9_copies_1 9 rfl rfl)
theorem dX9_copies_36 : decode cX9_copies 36 = .ok (.goto (-34), 3) := dk_167 255 222 (dk_at dksX9_copies_1 12 rfl rfl)
theorem dX9_copies_39 : decode cX9_copies 39 = .ok (.iconst 0, 1) := dk_3 (dk_at dksX9_copies_1 15 rfl rfl)
theorem dX9_copies_40 : decode cX9_copies 40 = .ok (.istore_n 3, 1) := dk_62 (dk_at dksX9_copies_1 16 rfl rfl)
theorem dX9_copies_41 : decode cX9_copies 41 = .ok (.iload_n 3, 1) := dk_29 (dk_at dksX9_copies_1 17 rfl rfl)
theorem dX9_copies_42 : decode cX9_copies 42 = .ok (.bipush 20, 2) := dk_16 20 (dk_at dksX9_copies_1 18 rfl rfl)
theorem dX9_copies_44 : decode cX9_copies 44 = .ok (.if_icmp .ge 31, 3) := dk_162 0 31 (dk_at dksX9_copies_1 20 rfl rfl)
theorem dX9_copies_47 : decode cX9_copies 47 = .ok (.aload_n 0, 1) := dk_42 (dk_at dksX9_copies_1 23 rfl rfl)
theorem dX9_copies_48 : decode cX9_copies 48 = .ok (.getfield 13, 3) := dk_180 0 13 (dk_at dksX9_copies_2 0 rfl rfl)
theorem dX9_copies_51 : decode cX9_copies 51 = .ok (.bipush 20, 2) := dk_16 20 (dk_at dksX9_copies_2 3 rfl rfl)
theorem dX9_copies_53 : decode cX9_copies 53 = .ok (.iload_n 2, 1) := dk_28 (dk_at dksX9_copies_2 5 rfl rfl)
theorem dX9_copies_54 : decode cX9_copies 54 = .ok (.imul, 1) := dk_104 (dk_at dksX9_copies_2 6 rfl rfl)
theorem dX9_copies_55 : decode cX9_copies 55 = .ok (.iload_n 3, 1) := dk_29 (dk_at dksX9_copies_2 7 rfl rfl)
theorem dX9_copies_56 : decode cX9_copies 56 = .ok (.iadd, 1) := dk_96 (dk_at dksX9_copies_2 8 rfl rfl)
theorem dX9_copies_57 : decode cX9_copies 57 = .ok (.aload_n 0, 1) := dk_42 (dk_at dksX9_copies_2 9 rfl rfl)
theorem dX9_copies_58 : decode cX9_copies 58 = .ok (.getfield 13, 3) := dk_180 0 13 (dk_at dksX9_copies_2 10 rfl rfl)
theorem dX9_copies_61 : decode cX9_copies 61 = .ok (.bipush 20, 2) := dk_16 20 (dk_at dksX9_copies_2 13 rfl rfl)
theorem dX9_copies_63 : decode cX9_copies 63 = .ok (.iload_n 1, 1) := dk_27 (dk_at dksX9_copies_2 15 rfl rfl)
theorem dX9_copies_64 : decode cX9_copies 64 = .ok (.imul, 1) := dk_104 (dk_at dksX9_copies_2 16 rfl rfl)
theorem dX9_copies_65 : decode cX9_copies 65 = .ok (.iload_n 3, 1) := dk_29 (dk_at dksX9_copies_2 17 rfl rfl)
theorem dX9_copies_66 : decode cX9_copies 66 = .ok (.iadd, 1) := dk_96 (dk_at dksX9_copies_2 18 rfl rfl)
theorem dX9_copies_67 : decode cX9_copies 67 = .ok (.laload, 1) := dk_47 (dk_at dksX9_copies_2 19 rfl rfl)
theorem dX9_copies_68 : decode cX9_copies 68 = .ok (.lastore, 1) := dk_80 (dk_at dksX9_copies_2 20 rfl rfl)
theorem dX9_copies_69 : decode cX9_copies 69 = .ok (.iinc 3 1, 3) := dk_132 3 1 (dk_at dksX9_copies_2 21 rfl rfl)
theorem dX9_copies_72 : decode cX9_copies 72 = .ok (.goto (-31), 3) := dk_167 255 225 (dk_at dksX9_copies_3 0 rfl rfl)
theorem dX9_copies_75 : decode cX9_copies 75 = .ok (.return_, 1) := dk_177 (dk_at dksX9_copies_3 3 rfl rfl)
abbrev cX9_back : ByteArray := prog_21_method_134_code
def yX9_back : MethodName := ⟨RX9, "back", "()I"⟩
def dkwX9_back_1 : List UInt8 := [89, 180, 1, 218, 4, 100, 181, 1, 218, 42, 42, 180, 1, 218, 182, 0, 107, 172]
abbrev dktX9_back_1 : List UInt8 := dkwX9_back_1 ++ []
def dkwX9_back_0 : List UInt8 := [42, 180, 1, 218, 154, 0, 10, 42, 16, 6, 182, 0, 103, 172, 42, 42, 180, 1, 218, 3, 182, 1, 221, 42]
abbrev dktX9_back_0 : List UInt8 := dkwX9_back_0 ++ dktX9_back_1
theorem dksX9_back_0 : cX9_back.data.toList.drop 0 = dktX9_back_0 := by decide +kernel
theorem dksX9_back_1 : cX9_back.data.toList.drop 24 = dktX9_back_1 := dk_seg dksX9_back_0 24 rfl rfl
theorem dX9_back_0 : decode cX9_back 0 = .ok (.aload_n 0, 1) := dk_42 (dk_at dksX9_back_0 0 rfl rfl)
theorem dX9_back_1 : decode cX9_back 1 = .ok (.getfield 474, 3) := dk_180 1 218 (dk_at dksX9_back_0 1 rfl rfl)
theorem dX9_back_4 : decode cX9_back 4 = .ok (.ifCond .ne 10, 3) := dk_154 0 10 (dk_at dksX9_back_0 4 rfl rfl)
theorem dX9_back_7 : decode cX9_back 7 = .ok (.aload_n 0, 1) := dk_42 (dk_at dksX9_back_0 7 rfl rfl)
theorem dX9_back_8 : decode cX9_back 8 = .ok (.bipush 6, 2) := dk_16 6 (dk_at dksX9_back_0 8 rfl rfl)
theorem dX9_back_10 : decode cX9_back 10 = .ok (.invokevirtual 103, 3) := dk_182 0 103 (dk_at dksX9_back_0 10 rfl rfl)
theorem dX9_back_13 : decode cX9_back 13 = .ok (.ireturn, 1) := dk_172 (dk_at dksX9_back_0 13 rfl rfl)
theorem dX9_back_14 : decode cX9_back 14 = .ok (.aload_n 0, 1) := dk_42 (dk_at dksX9_back_0 14 rfl rfl)
theorem dX9_back_15 : decode cX9_back 15 = .ok (.aload_n 0, 1) := dk_42 (dk_at dksX9_back_0 15 rfl rfl)
theorem dX9_back_16 : decode cX9_back 16 = .ok (.getfield 474, 3) := dk_180 1 218 (dk_at dksX9_back_0 16 rfl rfl)
theorem dX9_back_19 : decode cX9_back 19 = .ok (.iconst 0, 1) := dk_3 (dk_at dksX9_back_0 19 rfl rfl)
theorem dX9_back_20 : decode cX9_back 20 = .ok (.invokevirtual 477, 3) := dk_182 1 221 (dk_at dksX9_back_0 20 rfl rfl)
theorem dX9_back_23 : decode cX9_back 23 = .ok (.aload_n 0, 1) := dk_42 (dk_at dksX9_back_0 23 rfl rfl)
theorem dX9_back_24 : decode cX9_back 24 = .ok (.dup, 1) := dk_89 (dk_at dksX9_back_1 0 rfl rfl)
theorem dX9_back_25 : decode cX9_back 25 = .ok (.getfield 474, 3) := dk_180 1 218 (dk_at dksX9_back_1 1 rfl rfl)
theorem dX9_back_28 : decode cX9_back 28 = .ok (.iconst 1, 1) := dk_4 (dk_at dksX9_back_1 4 rfl rfl)
theorem dX9_back_29 : decode cX9_back 29 = .ok (.isub, 1) := dk_100 (dk_at dksX9_back_1 5 rfl rfl)
theorem dX9_back_30 : decode cX9_back 30 = .ok (.putfield 474, 3) := dk_181 1 218 (dk_at dksX9_back_1 6 rfl rfl)
theorem dX9_back_33 : decode cX9_back 33 = .ok (.aload_n 0, 1) := dk_42 (dk_at dksX9_back_1 9 rfl rfl)
theorem dX9_back_34 : decode cX9_back 34 = .ok (.aload_n 0, 1) := dk_42 (dk_at dksX9_back_1 10 rfl rfl)
theorem dX9_back_35 : decode cX9_back 35 = .ok (.getfield 474, 3) := dk_180 1 218 (dk_at dksX9_back_1 11 rfl rfl)
theorem dX9_back_38 : decode cX9_back 38 = .ok (.invokevirtual 107, 3) := dk_182 0 107 (dk_at dksX9_back_1 14 rfl rfl)
theorem dX9_back_41 : decode cX9_back 41 = .ok (.ireturn, 1) := dk_172 (dk_at dksX9_back_1 17 rfl rfl)
theorem q155 : (Jvm.Cond.initialized "SillBridgesModel") ∈ lw_all := lw_g (lw_at lw_m1 12 rfl) rfl
theorem q1582 : (Jvm.Cond.instantiable "SillBridgesModel" (54 : Nat)) ∈ lw_all := lw_g (lw_at lw_m6 239 rfl) rfl
theorem q1584 : (Jvm.Cond.instanceMethod ({ cls := "SillBridgesModel", name := "<init>", desc := "()V" } : Jvm.MethodName)) ∈ lw_all := lw_g (lw_at lw_m7 1 rfl) rfl
theorem q1585 : (Jvm.Cond.code ({ cls := "SillBridgesModel", name := "<init>", desc := "()V" } : Jvm.MethodName) prog_21_method_1_code (1 : Nat) (Option.none : Option Jvm.ClassFile.FieldType)) ∈ lw_all := lw_g (lw_at lw_m7 2 rfl) rfl
theorem q1586 : (Jvm.Cond.methodLink "SillBridgesModel" (1 : Nat) ({ cls := "java/lang/Object", name := "<init>", desc := "()V" } : Jvm.MethodName)) ∈ lw_all := lw_g (lw_at lw_m7 3 rfl) rfl
theorem q1587 : (Jvm.Cond.constant "SillBridgesModel" (68 : Nat) (129600 : Int32)) ∈ lw_all := lw_g (lw_at lw_m7 4 rfl) rfl
theorem q1588 : (Jvm.Cond.fieldLink "SillBridgesModel" (7 : Nat) "SillBridgesModel" "at" "[I") ∈ lw_all := lw_g (lw_at lw_m7 5 rfl) rfl
theorem q1589 : (Jvm.Cond.fieldLink "SillBridgesModel" (13 : Nat) "SillBridgesModel" "names" "[J") ∈ lw_all := lw_g (lw_at lw_m7 6 rfl) rfl
theorem q1590 : (Jvm.Cond.fieldLink "SillBridgesModel" (97 : Nat) "SillBridgesModel" "status" "I") ∈ lw_all := lw_g (lw_at lw_m7 7 rfl) rfl
theorem q1591 : (Jvm.Cond.fieldLink "SillBridgesModel" (100 : Nat) "SillBridgesModel" "top" "J") ∈ lw_all := lw_g (lw_at lw_m7 8 rfl) rfl
theorem q1592 : (Jvm.Cond.fieldLink "SillBridgesModel" (17 : Nat) "SillBridgesModel" "bottom" "J") ∈ lw_all := lw_g (lw_at lw_m7 9 rfl) rfl
theorem q1593 : (Jvm.Cond.fieldLink "SillBridgesModel" (21 : Nat) "SillBridgesModel" "sort" "[I") ∈ lw_all := lw_g (lw_at lw_m7 10 rfl) rfl
theorem q1594 : (Jvm.Cond.fieldLink "SillBridgesModel" (24 : Nat) "SillBridgesModel" "trayMany" "[I") ∈ lw_all := lw_g (lw_at lw_m7 11 rfl) rfl
theorem q1595 : (Jvm.Cond.fieldLink "SillBridgesModel" (27 : Nat) "SillBridgesModel" "trays" "[J") ∈ lw_all := lw_g (lw_at lw_m7 12 rfl) rfl
theorem q1596 : (Jvm.Cond.fieldLink "SillBridgesModel" (30 : Nat) "SillBridgesModel" "tape" "[B") ∈ lw_all := lw_g (lw_at lw_m7 13 rfl) rfl
theorem q1597 : (Jvm.Cond.fieldLink "SillBridgesModel" (34 : Nat) "SillBridgesModel" "text" "[B") ∈ lw_all := lw_g (lw_at lw_m7 14 rfl) rfl
theorem q1598 : (Jvm.Cond.fieldLink "SillBridgesModel" (127 : Nat) "SillBridgesModel" "taped" "I") ∈ lw_all := lw_g (lw_at lw_m7 15 rfl) rfl
theorem q1599 : (Jvm.Cond.fieldLink "SillBridgesModel" (134 : Nat) "SillBridgesModel" "size" "I") ∈ lw_all := lw_g (lw_at lw_m7 16 rfl) rfl
theorem q1600 : (Jvm.Cond.fieldLink "SillBridgesModel" (149 : Nat) "SillBridgesModel" "token" "I") ∈ lw_all := lw_g (lw_at lw_m7 17 rfl) rfl
theorem q1601 : (Jvm.Cond.fieldLink "SillBridgesModel" (143 : Nat) "SillBridgesModel" "from" "I") ∈ lw_all := lw_g (lw_at lw_m7 18 rfl) rfl
theorem q1602 : (Jvm.Cond.fieldLink "SillBridgesModel" (137 : Nat) "SillBridgesModel" "end" "I") ∈ lw_all := lw_g (lw_at lw_m7 19 rfl) rfl
theorem q1603 : (Jvm.Cond.fieldLink "SillBridgesModel" (146 : Nat) "SillBridgesModel" "value" "I") ∈ lw_all := lw_g (lw_at lw_m7 20 rfl) rfl
theorem q1604 : (Jvm.Cond.fieldLink "SillBridgesModel" (37 : Nat) "SillBridgesModel" "faultKind" "I") ∈ lw_all := lw_g (lw_at lw_m7 21 rfl) rfl
theorem q1605 : (Jvm.Cond.fieldLink "SillBridgesModel" (41 : Nat) "SillBridgesModel" "faultPlace" "I") ∈ lw_all := lw_g (lw_at lw_m7 22 rfl) rfl
theorem q1606 : (Jvm.Cond.fieldLink "SillBridgesModel" (174 : Nat) "SillBridgesModel" "faults" "I") ∈ lw_all := lw_g (lw_at lw_m7 23 rfl) rfl
theorem q1607 : (Jvm.Cond.fieldLink "SillBridgesModel" (177 : Nat) "SillBridgesModel" "seen" "I") ∈ lw_all := lw_g (lw_at lw_m7 24 rfl) rfl
theorem q1608 : (Jvm.Cond.fieldLink "SillBridgesModel" (210 : Nat) "SillBridgesModel" "found" "I") ∈ lw_all := lw_g (lw_at lw_m7 25 rfl) rfl
theorem q1609 : (Jvm.Cond.fieldLink "SillBridgesModel" (44 : Nat) "SillBridgesModel" "opened" "[I") ∈ lw_all := lw_g (lw_at lw_m7 26 rfl) rfl
theorem q1610 : (Jvm.Cond.fieldLink "SillBridgesModel" (270 : Nat) "SillBridgesModel" "depth" "I") ∈ lw_all := lw_g (lw_at lw_m7 27 rfl) rfl
theorem q1611 : (Jvm.Cond.fieldLink "SillBridgesModel" (273 : Nat) "SillBridgesModel" "counted" "I") ∈ lw_all := lw_g (lw_at lw_m7 28 rfl) rfl
theorem q1612 : (Jvm.Cond.fieldLink "SillBridgesModel" (47 : Nat) "SillBridgesModel" "now" "[I") ∈ lw_all := lw_g (lw_at lw_m7 29 rfl) rfl
theorem q1613 : (Jvm.Cond.fieldLink "SillBridgesModel" (50 : Nat) "SillBridgesModel" "lies" "[I") ∈ lw_all := lw_g (lw_at lw_m7 30 rfl) rfl
theorem q1614 : (Jvm.Cond.fieldLink "SillBridgesModel" (53 : Nat) "SillBridgesModel" "without" "I") ∈ lw_all := lw_g (lw_at lw_m7 31 rfl) rfl
theorem q1615 : (Jvm.Cond.fieldLink "SillBridgesModel" (312 : Nat) "SillBridgesModel" "more" "I") ∈ lw_all := lw_g (lw_at lw_m7 32 rfl) rfl
theorem q1616 : (Jvm.Cond.fieldLink "SillBridgesModel" (309 : Nat) "SillBridgesModel" "moreAt" "I") ∈ lw_all := lw_g (lw_at lw_m7 33 rfl) rfl
theorem q1617 : (Jvm.Cond.fieldLink "SillBridgesModel" (56 : Nat) "SillBridgesModel" "moveKind" "[I") ∈ lw_all := lw_g (lw_at lw_m7 34 rfl) rfl
theorem q1618 : (Jvm.Cond.fieldLink "SillBridgesModel" (59 : Nat) "SillBridgesModel" "moveOne" "[I") ∈ lw_all := lw_g (lw_at lw_m7 35 rfl) rfl
theorem q1619 : (Jvm.Cond.fieldLink "SillBridgesModel" (62 : Nat) "SillBridgesModel" "moveTwo" "[I") ∈ lw_all := lw_g (lw_at lw_m7 36 rfl) rfl
theorem q1620 : (Jvm.Cond.fieldLink "SillBridgesModel" (65 : Nat) "SillBridgesModel" "moveThird" "[I") ∈ lw_all := lw_g (lw_at lw_m7 37 rfl) rfl
theorem q1621 : (Jvm.Cond.fieldLink "SillBridgesModel" (354 : Nat) "SillBridgesModel" "moveMany" "I") ∈ lw_all := lw_g (lw_at lw_m7 38 rfl) rfl
theorem q1622 : (Jvm.Cond.fieldLink "SillBridgesModel" (69 : Nat) "SillBridgesModel" "far" "[I") ∈ lw_all := lw_g (lw_at lw_m7 39 rfl) rfl
theorem q1623 : (Jvm.Cond.fieldLink "SillBridgesModel" (72 : Nat) "SillBridgesModel" "come" "[I") ∈ lw_all := lw_g (lw_at lw_m7 40 rfl) rfl
theorem q1624 : (Jvm.Cond.fieldLink "SillBridgesModel" (75 : Nat) "SillBridgesModel" "good" "[Z") ∈ lw_all := lw_g (lw_at lw_m7 41 rfl) rfl
theorem q1625 : (Jvm.Cond.fieldLink "SillBridgesModel" (373 : Nat) "SillBridgesModel" "comeMany" "I") ∈ lw_all := lw_g (lw_at lw_m7 42 rfl) rfl
theorem q1626 : (Jvm.Cond.fieldLink "SillBridgesModel" (370 : Nat) "SillBridgesModel" "startCode" "I") ∈ lw_all := lw_g (lw_at lw_m7 43 rfl) rfl
theorem q1627 : (Jvm.Cond.fieldLink "SillBridgesModel" (79 : Nat) "SillBridgesModel" "firstMany" "I") ∈ lw_all := lw_g (lw_at lw_m7 44 rfl) rfl
theorem q1628 : (Jvm.Cond.fieldLink "SillBridgesModel" (82 : Nat) "SillBridgesModel" "way" "[I") ∈ lw_all := lw_g (lw_at lw_m7 45 rfl) rfl
theorem q1629 : (Jvm.Cond.fieldLink "SillBridgesModel" (430 : Nat) "SillBridgesModel" "drawn" "I") ∈ lw_all := lw_g (lw_at lw_m7 46 rfl) rfl
theorem q1630 : (Jvm.Cond.fieldLink "SillBridgesModel" (452 : Nat) "SillBridgesModel" "ranSteps" "I") ∈ lw_all := lw_g (lw_at lw_m7 47 rfl) rfl
theorem q1631 : (Jvm.Cond.fieldLink "SillBridgesModel" (446 : Nat) "SillBridgesModel" "ranMoves" "I") ∈ lw_all := lw_g (lw_at lw_m7 48 rfl) rfl
theorem q1632 : (Jvm.Cond.fieldLink "SillBridgesModel" (455 : Nat) "SillBridgesModel" "ranMissed" "I") ∈ lw_all := lw_g (lw_at lw_m7 49 rfl) rfl
theorem q1633 : (Jvm.Cond.fieldLink "SillBridgesModel" (443 : Nat) "SillBridgesModel" "ranSlipped" "I") ∈ lw_all := lw_g (lw_at lw_m7 50 rfl) rfl
theorem q1634 : (Jvm.Cond.fieldLink "SillBridgesModel" (434 : Nat) "SillBridgesModel" "ranToll" "I") ∈ lw_all := lw_g (lw_at lw_m7 51 rfl) rfl
theorem q1635 : (Jvm.Cond.fieldLink "SillBridgesModel" (437 : Nat) "SillBridgesModel" "ranMinutes" "I") ∈ lw_all := lw_g (lw_at lw_m7 52 rfl) rfl
theorem q1636 : (Jvm.Cond.fieldLink "SillBridgesModel" (426 : Nat) "SillBridgesModel" "blows" "Z") ∈ lw_all := lw_g (lw_at lw_m7 53 rfl) rfl
theorem q1637 : (Jvm.Cond.fieldLink "SillBridgesModel" (85 : Nat) "SillBridgesModel" "rounds" "[I") ∈ lw_all := lw_g (lw_at lw_m7 54 rfl) rfl
theorem q1638 : (Jvm.Cond.fieldLink "SillBridgesModel" (88 : Nat) "SillBridgesModel" "told0" "[I") ∈ lw_all := lw_g (lw_at lw_m7 55 rfl) rfl
theorem q1639 : (Jvm.Cond.fieldLink "SillBridgesModel" (91 : Nat) "SillBridgesModel" "endAt" "[I") ∈ lw_all := lw_g (lw_at lw_m7 56 rfl) rfl
theorem q1640 : (Jvm.Cond.fieldLink "SillBridgesModel" (94 : Nat) "SillBridgesModel" "toldPeople" "I") ∈ lw_all := lw_g (lw_at lw_m7 57 rfl) rfl
theorem q1641 : (Jvm.Cond.fieldLink "SillBridgesModel" (474 : Nat) "SillBridgesModel" "marks" "I") ∈ lw_all := lw_g (lw_at lw_m7 58 rfl) rfl
theorem q1642 : (Jvm.Cond.laysFinal "SillBridgesModel" "SillBridgesModel" "at" "[I") ∈ lw_all := lw_g (lw_at lw_m7 59 rfl) rfl
theorem q1643 : (Jvm.Cond.soleField "SillBridgesModel" "at") ∈ lw_all := lw_g (lw_at lw_m7 60 rfl) rfl
theorem q1644 : (Jvm.Cond.laysFinal "SillBridgesModel" "SillBridgesModel" "names" "[J") ∈ lw_all := lw_g (lw_at lw_m7 61 rfl) rfl
theorem q1645 : (Jvm.Cond.soleField "SillBridgesModel" "names") ∈ lw_all := lw_g (lw_at lw_m7 62 rfl) rfl
theorem q1646 : (Jvm.Cond.lays "SillBridgesModel" "SillBridgesModel" "status" "I") ∈ lw_all := lw_g (lw_at lw_m7 63 rfl) rfl
theorem q1647 : (Jvm.Cond.soleField "SillBridgesModel" "status") ∈ lw_all := lw_g (lw_at lw_m7 64 rfl) rfl
theorem q1648 : (Jvm.Cond.lays "SillBridgesModel" "SillBridgesModel" "top" "J") ∈ lw_all := lw_g (lw_at lw_m7 65 rfl) rfl
theorem q1649 : (Jvm.Cond.soleField "SillBridgesModel" "top") ∈ lw_all := lw_g (lw_at lw_m7 66 rfl) rfl
theorem q1650 : (Jvm.Cond.lays "SillBridgesModel" "SillBridgesModel" "bottom" "J") ∈ lw_all := lw_g (lw_at lw_m7 67 rfl) rfl
theorem q1651 : (Jvm.Cond.soleField "SillBridgesModel" "bottom") ∈ lw_all := lw_g (lw_at lw_m7 68 rfl) rfl
theorem q1652 : (Jvm.Cond.laysFinal "SillBridgesModel" "SillBridgesModel" "sort" "[I") ∈ lw_all := lw_g (lw_at lw_m7 69 rfl) rfl
theorem q1653 : (Jvm.Cond.soleField "SillBridgesModel" "sort") ∈ lw_all := lw_g (lw_at lw_m7 70 rfl) rfl
theorem q1654 : (Jvm.Cond.laysFinal "SillBridgesModel" "SillBridgesModel" "trayMany" "[I") ∈ lw_all := lw_g (lw_at lw_m7 71 rfl) rfl
theorem q1655 : (Jvm.Cond.soleField "SillBridgesModel" "trayMany") ∈ lw_all := lw_g (lw_at lw_m7 72 rfl) rfl
theorem q1656 : (Jvm.Cond.laysFinal "SillBridgesModel" "SillBridgesModel" "trays" "[J") ∈ lw_all := lw_g (lw_at lw_m7 73 rfl) rfl
theorem q1657 : (Jvm.Cond.soleField "SillBridgesModel" "trays") ∈ lw_all := lw_g (lw_at lw_m7 74 rfl) rfl
theorem q1658 : (Jvm.Cond.laysFinal "SillBridgesModel" "SillBridgesModel" "tape" "[B") ∈ lw_all := lw_g (lw_at lw_m7 75 rfl) rfl
theorem q1659 : (Jvm.Cond.soleField "SillBridgesModel" "tape") ∈ lw_all := lw_g (lw_at lw_m7 76 rfl) rfl
theorem q1660 : (Jvm.Cond.laysFinal "SillBridgesModel" "SillBridgesModel" "text" "[B") ∈ lw_all := lw_g (lw_at lw_m7 77 rfl) rfl
theorem q1661 : (Jvm.Cond.soleField "SillBridgesModel" "text") ∈ lw_all := lw_g (lw_at lw_m7 78 rfl) rfl
theorem q1662 : (Jvm.Cond.lays "SillBridgesModel" "SillBridgesModel" "taped" "I") ∈ lw_all := lw_g (lw_at lw_m7 79 rfl) rfl
theorem q1663 : (Jvm.Cond.soleField "SillBridgesModel" "taped") ∈ lw_all := lw_g (lw_at lw_m7 80 rfl) rfl
theorem q1664 : (Jvm.Cond.lays "SillBridgesModel" "SillBridgesModel" "size" "I") ∈ lw_all := lw_g (lw_at lw_m7 81 rfl) rfl
theorem q1665 : (Jvm.Cond.soleField "SillBridgesModel" "size") ∈ lw_all := lw_g (lw_at lw_m7 82 rfl) rfl
theorem q1666 : (Jvm.Cond.lays "SillBridgesModel" "SillBridgesModel" "token" "I") ∈ lw_all := lw_g (lw_at lw_m7 83 rfl) rfl
theorem q1667 : (Jvm.Cond.soleField "SillBridgesModel" "token") ∈ lw_all := lw_g (lw_at lw_m7 84 rfl) rfl
theorem q1668 : (Jvm.Cond.lays "SillBridgesModel" "SillBridgesModel" "from" "I") ∈ lw_all := lw_g (lw_at lw_m7 85 rfl) rfl
theorem q1669 : (Jvm.Cond.soleField "SillBridgesModel" "from") ∈ lw_all := lw_g (lw_at lw_m7 86 rfl) rfl
theorem q1670 : (Jvm.Cond.lays "SillBridgesModel" "SillBridgesModel" "end" "I") ∈ lw_all := lw_g (lw_at lw_m7 87 rfl) rfl
theorem q1671 : (Jvm.Cond.soleField "SillBridgesModel" "end") ∈ lw_all := lw_g (lw_at lw_m7 88 rfl) rfl
theorem q1672 : (Jvm.Cond.lays "SillBridgesModel" "SillBridgesModel" "value" "I") ∈ lw_all := lw_g (lw_at lw_m7 89 rfl) rfl
theorem q1673 : (Jvm.Cond.soleField "SillBridgesModel" "value") ∈ lw_all := lw_g (lw_at lw_m7 90 rfl) rfl
theorem q1674 : (Jvm.Cond.lays "SillBridgesModel" "SillBridgesModel" "faultKind" "I") ∈ lw_all := lw_g (lw_at lw_m7 91 rfl) rfl
theorem q1675 : (Jvm.Cond.soleField "SillBridgesModel" "faultKind") ∈ lw_all := lw_g (lw_at lw_m7 92 rfl) rfl
theorem q1676 : (Jvm.Cond.lays "SillBridgesModel" "SillBridgesModel" "faultPlace" "I") ∈ lw_all := lw_g (lw_at lw_m7 93 rfl) rfl
theorem q1677 : (Jvm.Cond.soleField "SillBridgesModel" "faultPlace") ∈ lw_all := lw_g (lw_at lw_m7 94 rfl) rfl
theorem q1678 : (Jvm.Cond.lays "SillBridgesModel" "SillBridgesModel" "faults" "I") ∈ lw_all := lw_g (lw_at lw_m7 95 rfl) rfl
theorem q1679 : (Jvm.Cond.soleField "SillBridgesModel" "faults") ∈ lw_all := lw_g (lw_at lw_m7 96 rfl) rfl
theorem q1680 : (Jvm.Cond.lays "SillBridgesModel" "SillBridgesModel" "seen" "I") ∈ lw_all := lw_g (lw_at lw_m7 97 rfl) rfl
theorem q1681 : (Jvm.Cond.soleField "SillBridgesModel" "seen") ∈ lw_all := lw_g (lw_at lw_m7 98 rfl) rfl
theorem q1682 : (Jvm.Cond.lays "SillBridgesModel" "SillBridgesModel" "found" "I") ∈ lw_all := lw_g (lw_at lw_m7 99 rfl) rfl
theorem q1683 : (Jvm.Cond.soleField "SillBridgesModel" "found") ∈ lw_all := lw_g (lw_at lw_m7 100 rfl) rfl
theorem q1684 : (Jvm.Cond.laysFinal "SillBridgesModel" "SillBridgesModel" "opened" "[I") ∈ lw_all := lw_g (lw_at lw_m7 101 rfl) rfl
theorem q1685 : (Jvm.Cond.soleField "SillBridgesModel" "opened") ∈ lw_all := lw_g (lw_at lw_m7 102 rfl) rfl
theorem q1686 : (Jvm.Cond.lays "SillBridgesModel" "SillBridgesModel" "depth" "I") ∈ lw_all := lw_g (lw_at lw_m7 103 rfl) rfl
theorem q1687 : (Jvm.Cond.soleField "SillBridgesModel" "depth") ∈ lw_all := lw_g (lw_at lw_m7 104 rfl) rfl
theorem q1688 : (Jvm.Cond.lays "SillBridgesModel" "SillBridgesModel" "counted" "I") ∈ lw_all := lw_g (lw_at lw_m7 105 rfl) rfl
theorem q1689 : (Jvm.Cond.soleField "SillBridgesModel" "counted") ∈ lw_all := lw_g (lw_at lw_m7 106 rfl) rfl
theorem q1690 : (Jvm.Cond.laysFinal "SillBridgesModel" "SillBridgesModel" "now" "[I") ∈ lw_all := lw_g (lw_at lw_m7 107 rfl) rfl
theorem q1691 : (Jvm.Cond.soleField "SillBridgesModel" "now") ∈ lw_all := lw_g (lw_at lw_m7 108 rfl) rfl
theorem q1692 : (Jvm.Cond.laysFinal "SillBridgesModel" "SillBridgesModel" "lies" "[I") ∈ lw_all := lw_g (lw_at lw_m7 109 rfl) rfl
theorem q1693 : (Jvm.Cond.soleField "SillBridgesModel" "lies") ∈ lw_all := lw_g (lw_at lw_m7 110 rfl) rfl
theorem q1694 : (Jvm.Cond.lays "SillBridgesModel" "SillBridgesModel" "without" "I") ∈ lw_all := lw_g (lw_at lw_m7 111 rfl) rfl
theorem q1695 : (Jvm.Cond.soleField "SillBridgesModel" "without") ∈ lw_all := lw_g (lw_at lw_m7 112 rfl) rfl
theorem q1696 : (Jvm.Cond.lays "SillBridgesModel" "SillBridgesModel" "more" "I") ∈ lw_all := lw_g (lw_at lw_m7 113 rfl) rfl
theorem q1697 : (Jvm.Cond.soleField "SillBridgesModel" "more") ∈ lw_all := lw_g (lw_at lw_m7 114 rfl) rfl
theorem q1698 : (Jvm.Cond.lays "SillBridgesModel" "SillBridgesModel" "moreAt" "I") ∈ lw_all := lw_g (lw_at lw_m7 115 rfl) rfl
theorem q1699 : (Jvm.Cond.soleField "SillBridgesModel" "moreAt") ∈ lw_all := lw_g (lw_at lw_m7 116 rfl) rfl
theorem q1700 : (Jvm.Cond.laysFinal "SillBridgesModel" "SillBridgesModel" "moveKind" "[I") ∈ lw_all := lw_g (lw_at lw_m7 117 rfl) rfl
theorem q1701 : (Jvm.Cond.soleField "SillBridgesModel" "moveKind") ∈ lw_all := lw_g (lw_at lw_m7 118 rfl) rfl
theorem q1702 : (Jvm.Cond.laysFinal "SillBridgesModel" "SillBridgesModel" "moveOne" "[I") ∈ lw_all := lw_g (lw_at lw_m7 119 rfl) rfl
theorem q1703 : (Jvm.Cond.soleField "SillBridgesModel" "moveOne") ∈ lw_all := lw_g (lw_at lw_m7 120 rfl) rfl
theorem q1704 : (Jvm.Cond.laysFinal "SillBridgesModel" "SillBridgesModel" "moveTwo" "[I") ∈ lw_all := lw_g (lw_at lw_m7 121 rfl) rfl
theorem q1705 : (Jvm.Cond.soleField "SillBridgesModel" "moveTwo") ∈ lw_all := lw_g (lw_at lw_m7 122 rfl) rfl
theorem q1706 : (Jvm.Cond.laysFinal "SillBridgesModel" "SillBridgesModel" "moveThird" "[I") ∈ lw_all := lw_g (lw_at lw_m7 123 rfl) rfl
theorem q1707 : (Jvm.Cond.soleField "SillBridgesModel" "moveThird") ∈ lw_all := lw_g (lw_at lw_m7 124 rfl) rfl
theorem q1708 : (Jvm.Cond.lays "SillBridgesModel" "SillBridgesModel" "moveMany" "I") ∈ lw_all := lw_g (lw_at lw_m7 125 rfl) rfl
theorem q1709 : (Jvm.Cond.soleField "SillBridgesModel" "moveMany") ∈ lw_all := lw_g (lw_at lw_m7 126 rfl) rfl
theorem q1710 : (Jvm.Cond.laysFinal "SillBridgesModel" "SillBridgesModel" "far" "[I") ∈ lw_all := lw_g (lw_at lw_m7 127 rfl) rfl
theorem q1711 : (Jvm.Cond.soleField "SillBridgesModel" "far") ∈ lw_all := lw_g (lw_at lw_m7 128 rfl) rfl
theorem q1712 : (Jvm.Cond.laysFinal "SillBridgesModel" "SillBridgesModel" "come" "[I") ∈ lw_all := lw_g (lw_at lw_m7 129 rfl) rfl
theorem q1713 : (Jvm.Cond.soleField "SillBridgesModel" "come") ∈ lw_all := lw_g (lw_at lw_m7 130 rfl) rfl
theorem q1714 : (Jvm.Cond.laysFinal "SillBridgesModel" "SillBridgesModel" "good" "[Z") ∈ lw_all := lw_g (lw_at lw_m7 131 rfl) rfl
theorem q1715 : (Jvm.Cond.soleField "SillBridgesModel" "good") ∈ lw_all := lw_g (lw_at lw_m7 132 rfl) rfl
theorem q1716 : (Jvm.Cond.lays "SillBridgesModel" "SillBridgesModel" "comeMany" "I") ∈ lw_all := lw_g (lw_at lw_m7 133 rfl) rfl
theorem q1717 : (Jvm.Cond.soleField "SillBridgesModel" "comeMany") ∈ lw_all := lw_g (lw_at lw_m7 134 rfl) rfl
theorem q1718 : (Jvm.Cond.lays "SillBridgesModel" "SillBridgesModel" "startCode" "I") ∈ lw_all := lw_g (lw_at lw_m7 135 rfl) rfl
theorem q1719 : (Jvm.Cond.soleField "SillBridgesModel" "startCode") ∈ lw_all := lw_g (lw_at lw_m7 136 rfl) rfl
theorem q1720 : (Jvm.Cond.lays "SillBridgesModel" "SillBridgesModel" "firstMany" "I") ∈ lw_all := lw_g (lw_at lw_m7 137 rfl) rfl
theorem q1721 : (Jvm.Cond.soleField "SillBridgesModel" "firstMany") ∈ lw_all := lw_g (lw_at lw_m7 138 rfl) rfl
theorem q1722 : (Jvm.Cond.laysFinal "SillBridgesModel" "SillBridgesModel" "way" "[I") ∈ lw_all := lw_g (lw_at lw_m7 139 rfl) rfl
theorem q1723 : (Jvm.Cond.soleField "SillBridgesModel" "way") ∈ lw_all := lw_g (lw_at lw_m7 140 rfl) rfl
theorem q1724 : (Jvm.Cond.lays "SillBridgesModel" "SillBridgesModel" "drawn" "I") ∈ lw_all := lw_g (lw_at lw_m7 141 rfl) rfl
theorem q1725 : (Jvm.Cond.soleField "SillBridgesModel" "drawn") ∈ lw_all := lw_g (lw_at lw_m7 142 rfl) rfl
theorem q1726 : (Jvm.Cond.lays "SillBridgesModel" "SillBridgesModel" "ranSteps" "I") ∈ lw_all := lw_g (lw_at lw_m7 143 rfl) rfl
theorem q1727 : (Jvm.Cond.soleField "SillBridgesModel" "ranSteps") ∈ lw_all := lw_g (lw_at lw_m7 144 rfl) rfl
theorem q1728 : (Jvm.Cond.lays "SillBridgesModel" "SillBridgesModel" "ranMoves" "I") ∈ lw_all := lw_g (lw_at lw_m7 145 rfl) rfl
theorem q1729 : (Jvm.Cond.soleField "SillBridgesModel" "ranMoves") ∈ lw_all := lw_g (lw_at lw_m7 146 rfl) rfl
theorem q1730 : (Jvm.Cond.lays "SillBridgesModel" "SillBridgesModel" "ranMissed" "I") ∈ lw_all := lw_g (lw_at lw_m7 147 rfl) rfl
theorem q1731 : (Jvm.Cond.soleField "SillBridgesModel" "ranMissed") ∈ lw_all := lw_g (lw_at lw_m7 148 rfl) rfl
theorem q1732 : (Jvm.Cond.lays "SillBridgesModel" "SillBridgesModel" "ranSlipped" "I") ∈ lw_all := lw_g (lw_at lw_m7 149 rfl) rfl
theorem q1733 : (Jvm.Cond.soleField "SillBridgesModel" "ranSlipped") ∈ lw_all := lw_g (lw_at lw_m7 150 rfl) rfl
theorem q1734 : (Jvm.Cond.lays "SillBridgesModel" "SillBridgesModel" "ranToll" "I") ∈ lw_all := lw_g (lw_at lw_m7 151 rfl) rfl
theorem q1735 : (Jvm.Cond.soleField "SillBridgesModel" "ranToll") ∈ lw_all := lw_g (lw_at lw_m7 152 rfl) rfl
theorem q1736 : (Jvm.Cond.lays "SillBridgesModel" "SillBridgesModel" "ranMinutes" "I") ∈ lw_all := lw_g (lw_at lw_m7 153 rfl) rfl
theorem q1737 : (Jvm.Cond.soleField "SillBridgesModel" "ranMinutes") ∈ lw_all := lw_g (lw_at lw_m7 154 rfl) rfl
theorem q1738 : (Jvm.Cond.lays "SillBridgesModel" "SillBridgesModel" "blows" "Z") ∈ lw_all := lw_g (lw_at lw_m7 155 rfl) rfl
theorem q1739 : (Jvm.Cond.soleField "SillBridgesModel" "blows") ∈ lw_all := lw_g (lw_at lw_m7 156 rfl) rfl
theorem q1740 : (Jvm.Cond.laysFinal "SillBridgesModel" "SillBridgesModel" "rounds" "[I") ∈ lw_all := lw_g (lw_at lw_m7 157 rfl) rfl
theorem q1741 : (Jvm.Cond.soleField "SillBridgesModel" "rounds") ∈ lw_all := lw_g (lw_at lw_m7 158 rfl) rfl
theorem q1742 : (Jvm.Cond.laysFinal "SillBridgesModel" "SillBridgesModel" "told0" "[I") ∈ lw_all := lw_g (lw_at lw_m7 159 rfl) rfl
theorem q1743 : (Jvm.Cond.soleField "SillBridgesModel" "told0") ∈ lw_all := lw_g (lw_at lw_m7 160 rfl) rfl
theorem q1744 : (Jvm.Cond.laysFinal "SillBridgesModel" "SillBridgesModel" "endAt" "[I") ∈ lw_all := lw_g (lw_at lw_m7 161 rfl) rfl
theorem q1745 : (Jvm.Cond.soleField "SillBridgesModel" "endAt") ∈ lw_all := lw_g (lw_at lw_m7 162 rfl) rfl
theorem q1746 : (Jvm.Cond.lays "SillBridgesModel" "SillBridgesModel" "toldPeople" "I") ∈ lw_all := lw_g (lw_at lw_m7 163 rfl) rfl
theorem q1747 : (Jvm.Cond.soleField "SillBridgesModel" "toldPeople") ∈ lw_all := lw_g (lw_at lw_m7 164 rfl) rfl
theorem q1748 : (Jvm.Cond.lays "SillBridgesModel" "SillBridgesModel" "marks" "I") ∈ lw_all := lw_g (lw_at lw_m7 165 rfl) rfl
theorem q1749 : (Jvm.Cond.soleField "SillBridgesModel" "marks") ∈ lw_all := lw_g (lw_at lw_m7 166 rfl) rfl
theorem q1750 : (Jvm.Cond.superclass "SillBridgesModel" "java/lang/Object") ∈ lw_all := lw_g (lw_at lw_m7 167 rfl) rfl
theorem q1752 : (Jvm.Cond.instanceMethod ({ cls := "SillBridgesModel", name := "status", desc := "()I" } : Jvm.MethodName)) ∈ lw_all := lw_g (lw_at lw_m7 169 rfl) rfl
theorem q1753 : (Jvm.Cond.selects "SillBridgesModel" ({ cls := "SillBridgesModel", name := "status", desc := "()I" } : Jvm.MethodName) ({ cls := "SillBridgesModel", name := "status", desc := "()I" } : Jvm.MethodName)) ∈ lw_all := lw_g (lw_at lw_m7 170 rfl) rfl
theorem q1754 : (Jvm.Cond.code ({ cls := "SillBridgesModel", name := "status", desc := "()I" } : Jvm.MethodName) prog_21_method_2_code (1 : Nat) (Option.some Jvm.ClassFile.FieldType.int)) ∈ lw_all := lw_g (lw_at lw_m7 171 rfl) rfl
theorem q1756 : (Jvm.Cond.instanceMethod ({ cls := "SillBridgesModel", name := "top", desc := "()J" } : Jvm.MethodName)) ∈ lw_all := lw_g (lw_at lw_m7 173 rfl) rfl
theorem q1757 : (Jvm.Cond.selects "SillBridgesModel" ({ cls := "SillBridgesModel", name := "top", desc := "()J" } : Jvm.MethodName) ({ cls := "SillBridgesModel", name := "top", desc := "()J" } : Jvm.MethodName)) ∈ lw_all := lw_g (lw_at lw_m7 174 rfl) rfl
theorem q1758 : (Jvm.Cond.code ({ cls := "SillBridgesModel", name := "top", desc := "()J" } : Jvm.MethodName) prog_21_method_3_code (1 : Nat) (Option.some Jvm.ClassFile.FieldType.long)) ∈ lw_all := lw_g (lw_at lw_m7 175 rfl) rfl
theorem q1760 : (Jvm.Cond.instanceMethod ({ cls := "SillBridgesModel", name := "bottom", desc := "()J" } : Jvm.MethodName)) ∈ lw_all := lw_g (lw_at lw_m7 177 rfl) rfl
theorem q1761 : (Jvm.Cond.selects "SillBridgesModel" ({ cls := "SillBridgesModel", name := "bottom", desc := "()J" } : Jvm.MethodName) ({ cls := "SillBridgesModel", name := "bottom", desc := "()J" } : Jvm.MethodName)) ∈ lw_all := lw_g (lw_at lw_m7 178 rfl) rfl
theorem q1762 : (Jvm.Cond.code ({ cls := "SillBridgesModel", name := "bottom", desc := "()J" } : Jvm.MethodName) prog_21_method_4_code (1 : Nat) (Option.some Jvm.ClassFile.FieldType.long)) ∈ lw_all := lw_g (lw_at lw_m7 179 rfl) rfl
theorem q1764 : (Jvm.Cond.instanceMethod ({ cls := "SillBridgesModel", name := "tray", desc := "(III)Z" } : Jvm.MethodName)) ∈ lw_all := lw_g (lw_at lw_m7 181 rfl) rfl
theorem q1765 : (Jvm.Cond.selects "SillBridgesModel" ({ cls := "SillBridgesModel", name := "tray", desc := "(III)Z" } : Jvm.MethodName) ({ cls := "SillBridgesModel", name := "tray", desc := "(III)Z" } : Jvm.MethodName)) ∈ lw_all := lw_g (lw_at lw_m7 182 rfl) rfl
theorem q1766 : (Jvm.Cond.code ({ cls := "SillBridgesModel", name := "tray", desc := "(III)Z" } : Jvm.MethodName) prog_21_method_12_code (5 : Nat) (Option.some Jvm.ClassFile.FieldType.boolean)) ∈ lw_all := lw_g (lw_at lw_m7 183 rfl) rfl
theorem q1767 : (Jvm.Cond.methodLink "SillBridgesModel" (114 : Nat) ({ cls := "SillBridgesModel", name := "isTray", desc := "(I)Z" } : Jvm.MethodName)) ∈ lw_all := lw_g (lw_at lw_m7 184 rfl) rfl
theorem q1768 : (Jvm.Cond.static ({ cls := "SillBridgesModel", name := "isTray", desc := "(I)Z" } : Jvm.MethodName)) ∈ lw_all := lw_g (lw_at lw_m7 185 rfl) rfl
theorem q1769 : (Jvm.Cond.code ({ cls := "SillBridgesModel", name := "isTray", desc := "(I)Z" } : Jvm.MethodName) prog_21_method_10_code (1 : Nat) (Option.some Jvm.ClassFile.FieldType.boolean)) ∈ lw_all := lw_g (lw_at lw_m7 186 rfl) rfl
theorem q1770 : (Jvm.Cond.methodLink "SillBridgesModel" (110 : Nat) ({ cls := "SillBridgesModel", name := "is", desc := "(I)Z" } : Jvm.MethodName)) ∈ lw_all := lw_g (lw_at lw_m7 187 rfl) rfl
theorem q1771 : (Jvm.Cond.privateMethod ({ cls := "SillBridgesModel", name := "is", desc := "(I)Z" } : Jvm.MethodName)) ∈ lw_tbl := lw_at lw_m7 188 rfl
theorem q1772 : (Jvm.Cond.instanceMethod ({ cls := "SillBridgesModel", name := "is", desc := "(I)Z" } : Jvm.MethodName)) ∈ lw_all := lw_g (lw_at lw_m7 189 rfl) rfl
theorem q1773 : (Jvm.Cond.code ({ cls := "SillBridgesModel", name := "is", desc := "(I)Z" } : Jvm.MethodName) prog_21_method_5_code (2 : Nat) (Option.some Jvm.ClassFile.FieldType.boolean)) ∈ lw_all := lw_g (lw_at lw_m7 190 rfl) rfl
theorem q1775 : (Jvm.Cond.instanceMethod ({ cls := "SillBridgesModel", name := "write", desc := "(IIJ)Z" } : Jvm.MethodName)) ∈ lw_all := lw_g (lw_at lw_m7 192 rfl) rfl
theorem q1776 : (Jvm.Cond.selects "SillBridgesModel" ({ cls := "SillBridgesModel", name := "write", desc := "(IIJ)Z" } : Jvm.MethodName) ({ cls := "SillBridgesModel", name := "write", desc := "(IIJ)Z" } : Jvm.MethodName)) ∈ lw_all := lw_g (lw_at lw_m7 193 rfl) rfl
theorem q1777 : (Jvm.Cond.code ({ cls := "SillBridgesModel", name := "write", desc := "(IIJ)Z" } : Jvm.MethodName) prog_21_method_14_code (6 : Nat) (Option.some Jvm.ClassFile.FieldType.boolean)) ∈ lw_all := lw_g (lw_at lw_m7 194 rfl) rfl
theorem q1778 : (Jvm.Cond.methodLink "SillBridgesModel" (117 : Nat) ({ cls := "SillBridgesModel", name := "wrongPlace", desc := "(II)I" } : Jvm.MethodName)) ∈ lw_all := lw_g (lw_at lw_m7 195 rfl) rfl
theorem q1779 : (Jvm.Cond.privateMethod ({ cls := "SillBridgesModel", name := "wrongPlace", desc := "(II)I" } : Jvm.MethodName)) ∈ lw_tbl := lw_at lw_m7 196 rfl
theorem q1780 : (Jvm.Cond.instanceMethod ({ cls := "SillBridgesModel", name := "wrongPlace", desc := "(II)I" } : Jvm.MethodName)) ∈ lw_all := lw_g (lw_at lw_m7 197 rfl) rfl
theorem q1781 : (Jvm.Cond.code ({ cls := "SillBridgesModel", name := "wrongPlace", desc := "(II)I" } : Jvm.MethodName) prog_21_method_13_code (3 : Nat) (Option.some Jvm.ClassFile.FieldType.int)) ∈ lw_all := lw_g (lw_at lw_m7 198 rfl) rfl
theorem q1782 : (Jvm.Cond.methodLink "SillBridgesModel" (121 : Nat) ({ cls := "SillBridgesModel", name := "cut", desc := "(JI)J" } : Jvm.MethodName)) ∈ lw_all := lw_g (lw_at lw_m7 199 rfl) rfl
theorem q1783 : (Jvm.Cond.static ({ cls := "SillBridgesModel", name := "cut", desc := "(JI)J" } : Jvm.MethodName)) ∈ lw_all := lw_g (lw_at lw_m7 200 rfl) rfl
theorem q1784 : (Jvm.Cond.code ({ cls := "SillBridgesModel", name := "cut", desc := "(JI)J" } : Jvm.MethodName) prog_21_method_11_code (3 : Nat) (Option.some Jvm.ClassFile.FieldType.long)) ∈ lw_all := lw_g (lw_at lw_m7 201 rfl) rfl
theorem q1786 : (Jvm.Cond.instanceMethod ({ cls := "SillBridgesModel", name := "read", desc := "(II)J" } : Jvm.MethodName)) ∈ lw_all := lw_g (lw_at lw_m7 203 rfl) rfl
theorem q1787 : (Jvm.Cond.selects "SillBridgesModel" ({ cls := "SillBridgesModel", name := "read", desc := "(II)J" } : Jvm.MethodName) ({ cls := "SillBridgesModel", name := "read", desc := "(II)J" } : Jvm.MethodName)) ∈ lw_all := lw_g (lw_at lw_m7 204 rfl) rfl
theorem q1788 : (Jvm.Cond.code ({ cls := "SillBridgesModel", name := "read", desc := "(II)J" } : Jvm.MethodName) prog_21_method_15_code (3 : Nat) (Option.some Jvm.ClassFile.FieldType.long)) ∈ lw_all := lw_g (lw_at lw_m7 205 rfl) rfl
theorem q1789 : (Jvm.Cond.constantLong "SillBridgesModel" (125 : Nat) (-1 : Int64)) ∈ lw_all := lw_g (lw_at lw_m7 206 rfl) rfl
theorem q1791 : (Jvm.Cond.instanceMethod ({ cls := "SillBridgesModel", name := "pour", desc := "(IIIII)Z" } : Jvm.MethodName)) ∈ lw_all := lw_g (lw_at lw_m7 208 rfl) rfl
theorem q1792 : (Jvm.Cond.selects "SillBridgesModel" ({ cls := "SillBridgesModel", name := "pour", desc := "(IIIII)Z" } : Jvm.MethodName) ({ cls := "SillBridgesModel", name := "pour", desc := "(IIIII)Z" } : Jvm.MethodName)) ∈ lw_all := lw_g (lw_at lw_m7 209 rfl) rfl
theorem q1793 : (Jvm.Cond.code ({ cls := "SillBridgesModel", name := "pour", desc := "(IIIII)Z" } : Jvm.MethodName) prog_21_method_16_code (8 : Nat) (Option.some Jvm.ClassFile.FieldType.boolean)) ∈ lw_all := lw_g (lw_at lw_m7 210 rfl) rfl
theorem q1795 : (Jvm.Cond.instanceMethod ({ cls := "SillBridgesModel", name := "feed", desc := "(IIIII)I" } : Jvm.MethodName)) ∈ lw_all := lw_g (lw_at lw_m7 212 rfl) rfl
theorem q1796 : (Jvm.Cond.selects "SillBridgesModel" ({ cls := "SillBridgesModel", name := "feed", desc := "(IIIII)I" } : Jvm.MethodName) ({ cls := "SillBridgesModel", name := "feed", desc := "(IIIII)I" } : Jvm.MethodName)) ∈ lw_all := lw_g (lw_at lw_m7 213 rfl) rfl
theorem q1797 : (Jvm.Cond.code ({ cls := "SillBridgesModel", name := "feed", desc := "(IIIII)I" } : Jvm.MethodName) prog_21_method_18_code (6 : Nat) (Option.some Jvm.ClassFile.FieldType.int)) ∈ lw_all := lw_g (lw_at lw_m7 214 rfl) rfl
theorem q1798 : (Jvm.Cond.methodLink "SillBridgesModel" (130 : Nat) ({ cls := "SillBridgesModel", name := "four", desc := "(I)V" } : Jvm.MethodName)) ∈ lw_all := lw_g (lw_at lw_m7 215 rfl) rfl
theorem q1799 : (Jvm.Cond.privateMethod ({ cls := "SillBridgesModel", name := "four", desc := "(I)V" } : Jvm.MethodName)) ∈ lw_tbl := lw_at lw_m7 216 rfl
theorem q1800 : (Jvm.Cond.instanceMethod ({ cls := "SillBridgesModel", name := "four", desc := "(I)V" } : Jvm.MethodName)) ∈ lw_all := lw_g (lw_at lw_m7 217 rfl) rfl
theorem q1801 : (Jvm.Cond.code ({ cls := "SillBridgesModel", name := "four", desc := "(I)V" } : Jvm.MethodName) prog_21_method_19_code (3 : Nat) (Option.none : Option Jvm.ClassFile.FieldType)) ∈ lw_all := lw_g (lw_at lw_m7 218 rfl) rfl
theorem q1803 : (Jvm.Cond.instanceMethod ({ cls := "SillBridgesModel", name := "fault", desc := "(I)I" } : Jvm.MethodName)) ∈ lw_all := lw_g (lw_at lw_m7 220 rfl) rfl
theorem q1804 : (Jvm.Cond.selects "SillBridgesModel" ({ cls := "SillBridgesModel", name := "fault", desc := "(I)I" } : Jvm.MethodName) ({ cls := "SillBridgesModel", name := "fault", desc := "(I)I" } : Jvm.MethodName)) ∈ lw_all := lw_g (lw_at lw_m7 221 rfl) rfl
theorem q1805 : (Jvm.Cond.code ({ cls := "SillBridgesModel", name := "fault", desc := "(I)I" } : Jvm.MethodName) prog_21_method_34_code (2 : Nat) (Option.some Jvm.ClassFile.FieldType.int)) ∈ lw_all := lw_g (lw_at lw_m7 222 rfl) rfl
theorem q1807 : (Jvm.Cond.instanceMethod ({ cls := "SillBridgesModel", name := "town", desc := "(I)I" } : Jvm.MethodName)) ∈ lw_all := lw_g (lw_at lw_m7 224 rfl) rfl
theorem q1808 : (Jvm.Cond.selects "SillBridgesModel" ({ cls := "SillBridgesModel", name := "town", desc := "(I)I" } : Jvm.MethodName) ({ cls := "SillBridgesModel", name := "town", desc := "(I)I" } : Jvm.MethodName)) ∈ lw_all := lw_g (lw_at lw_m7 225 rfl) rfl
theorem q1809 : (Jvm.Cond.code ({ cls := "SillBridgesModel", name := "town", desc := "(I)I" } : Jvm.MethodName) prog_21_method_45_code (4 : Nat) (Option.some Jvm.ClassFile.FieldType.int)) ∈ lw_all := lw_g (lw_at lw_m7 226 rfl) rfl
theorem q1810 : (Jvm.Cond.methodLink "SillBridgesModel" (245 : Nat) ({ cls := "SillBridgesModel", name := "begins", desc := "(II)Z" } : Jvm.MethodName)) ∈ lw_all := lw_g (lw_at lw_m7 227 rfl) rfl
theorem q1811 : (Jvm.Cond.privateMethod ({ cls := "SillBridgesModel", name := "begins", desc := "(II)Z" } : Jvm.MethodName)) ∈ lw_tbl := lw_at lw_m7 228 rfl
theorem q1812 : (Jvm.Cond.instanceMethod ({ cls := "SillBridgesModel", name := "begins", desc := "(II)Z" } : Jvm.MethodName)) ∈ lw_all := lw_g (lw_at lw_m7 229 rfl) rfl
theorem q1813 : (Jvm.Cond.code ({ cls := "SillBridgesModel", name := "begins", desc := "(II)Z" } : Jvm.MethodName) prog_21_method_27_code (4 : Nat) (Option.some Jvm.ClassFile.FieldType.boolean)) ∈ lw_all := lw_g (lw_at lw_m7 230 rfl) rfl
theorem q1814 : (Jvm.Cond.methodLink "SillBridgesModel" (180 : Nat) ({ cls := "SillBridgesModel", name := "ahead", desc := "()V" } : Jvm.MethodName)) ∈ lw_all := lw_g (lw_at lw_m7 231 rfl) rfl
theorem q1815 : (Jvm.Cond.privateMethod ({ cls := "SillBridgesModel", name := "ahead", desc := "()V" } : Jvm.MethodName)) ∈ lw_tbl := lw_at lw_m7 232 rfl
theorem q1816 : (Jvm.Cond.instanceMethod ({ cls := "SillBridgesModel", name := "ahead", desc := "()V" } : Jvm.MethodName)) ∈ lw_all := lw_g (lw_at lw_m7 233 rfl) rfl
theorem q1817 : (Jvm.Cond.code ({ cls := "SillBridgesModel", name := "ahead", desc := "()V" } : Jvm.MethodName) prog_21_method_23_code (2 : Nat) (Option.none : Option Jvm.ClassFile.FieldType)) ∈ lw_all := lw_g (lw_at lw_m7 234 rfl) rfl
theorem q1818 : (Jvm.Cond.methodLink "SillBridgesModel" (140 : Nat) ({ cls := "SillBridgesModel", name := "byteAt", desc := "(I)I" } : Jvm.MethodName)) ∈ lw_all := lw_g (lw_at lw_m7 235 rfl) rfl
theorem q1819 : (Jvm.Cond.privateMethod ({ cls := "SillBridgesModel", name := "byteAt", desc := "(I)I" } : Jvm.MethodName)) ∈ lw_tbl := lw_at lw_m7 236 rfl
theorem q1820 : (Jvm.Cond.instanceMethod ({ cls := "SillBridgesModel", name := "byteAt", desc := "(I)I" } : Jvm.MethodName)) ∈ lw_all := lw_g (lw_at lw_m7 237 rfl) rfl
theorem q1821 : (Jvm.Cond.code ({ cls := "SillBridgesModel", name := "byteAt", desc := "(I)I" } : Jvm.MethodName) prog_21_method_20_code (2 : Nat) (Option.some Jvm.ClassFile.FieldType.int)) ∈ lw_all := lw_g (lw_at lw_m7 238 rfl) rfl
theorem q1822 : (Jvm.Cond.methodLink "SillBridgesModel" (152 : Nat) ({ cls := "SillBridgesModel", name := "isSmall", desc := "(I)Z" } : Jvm.MethodName)) ∈ lw_all := lw_g (lw_at lw_m7 239 rfl) rfl
theorem q1823 : (Jvm.Cond.static ({ cls := "SillBridgesModel", name := "isSmall", desc := "(I)Z" } : Jvm.MethodName)) ∈ lw_all := lw_g (lw_at lw_m8 0 rfl) rfl
theorem q1824 : (Jvm.Cond.code ({ cls := "SillBridgesModel", name := "isSmall", desc := "(I)Z" } : Jvm.MethodName) prog_21_method_21_code (1 : Nat) (Option.some Jvm.ClassFile.FieldType.boolean)) ∈ lw_all := lw_g (lw_at lw_m8 1 rfl) rfl
theorem q1825 : (Jvm.Cond.methodLink "SillBridgesModel" (155 : Nat) ({ cls := "SillBridgesModel", name := "isDigit", desc := "(I)Z" } : Jvm.MethodName)) ∈ lw_all := lw_g (lw_at lw_m8 2 rfl) rfl
theorem q1826 : (Jvm.Cond.static ({ cls := "SillBridgesModel", name := "isDigit", desc := "(I)Z" } : Jvm.MethodName)) ∈ lw_all := lw_g (lw_at lw_m8 3 rfl) rfl
theorem q1827 : (Jvm.Cond.code ({ cls := "SillBridgesModel", name := "isDigit", desc := "(I)Z" } : Jvm.MethodName) prog_21_method_22_code (1 : Nat) (Option.some Jvm.ClassFile.FieldType.boolean)) ∈ lw_all := lw_g (lw_at lw_m8 4 rfl) rfl
theorem q1828 : (Jvm.Cond.constant "SillBridgesModel" (158 : Nat) (100000 : Int32)) ∈ lw_all := lw_g (lw_at lw_m8 5 rfl) rfl
theorem q1829 : (Jvm.Cond.methodLink "SillBridgesModel" (159 : Nat) ({ cls := "java/lang/Math", name := "min", desc := "(II)I" } : Jvm.MethodName)) ∈ lw_all := lw_g (lw_at lw_m8 6 rfl) rfl
theorem q1830 : (Jvm.Cond.methodLink "SillBridgesModel" (103 : Nat) ({ cls := "SillBridgesModel", name := "refuse", desc := "(I)I" } : Jvm.MethodName)) ∈ lw_all := lw_g (lw_at lw_m8 7 rfl) rfl
theorem q1831 : (Jvm.Cond.privateMethod ({ cls := "SillBridgesModel", name := "refuse", desc := "(I)I" } : Jvm.MethodName)) ∈ lw_tbl := lw_at lw_m8 8 rfl
theorem q1832 : (Jvm.Cond.instanceMethod ({ cls := "SillBridgesModel", name := "refuse", desc := "(I)I" } : Jvm.MethodName)) ∈ lw_all := lw_g (lw_at lw_m8 9 rfl) rfl
theorem q1833 : (Jvm.Cond.code ({ cls := "SillBridgesModel", name := "refuse", desc := "(I)I" } : Jvm.MethodName) prog_21_method_6_code (2 : Nat) (Option.some Jvm.ClassFile.FieldType.int)) ∈ lw_all := lw_g (lw_at lw_m8 10 rfl) rfl
theorem q1834 : (Jvm.Cond.methodLink "SillBridgesModel" (249 : Nat) ({ cls := "SillBridgesModel", name := "townPart", desc := "()Z" } : Jvm.MethodName)) ∈ lw_all := lw_g (lw_at lw_m8 11 rfl) rfl
theorem q1835 : (Jvm.Cond.privateMethod ({ cls := "SillBridgesModel", name := "townPart", desc := "()Z" } : Jvm.MethodName)) ∈ lw_tbl := lw_at lw_m8 12 rfl
theorem q1836 : (Jvm.Cond.instanceMethod ({ cls := "SillBridgesModel", name := "townPart", desc := "()Z" } : Jvm.MethodName)) ∈ lw_all := lw_g (lw_at lw_m8 13 rfl) rfl
theorem q1837 : (Jvm.Cond.code ({ cls := "SillBridgesModel", name := "townPart", desc := "()Z" } : Jvm.MethodName) prog_21_method_44_code (2 : Nat) (Option.some Jvm.ClassFile.FieldType.boolean)) ∈ lw_all := lw_g (lw_at lw_m8 14 rfl) rfl
theorem q1838 : (Jvm.Cond.stringRef "SillBridgesModel" (200 : Nat) " place bridge person load stone from to sill needs by bears toll takes sways weighs at wants carries led go both over lift drop when there holds loop end stop ") ∈ lw_tbl := lw_at lw_m8 15 rfl
theorem q1839 : (Jvm.Cond.methodLink "SillBridgesModel" (189 : Nat) ({ cls := "SillBridgesModel", name := "inWords", desc := "(Ljava/lang/String;)I" } : Jvm.MethodName)) ∈ lw_all := lw_g (lw_at lw_m8 16 rfl) rfl
theorem q1840 : (Jvm.Cond.privateMethod ({ cls := "SillBridgesModel", name := "inWords", desc := "(Ljava/lang/String;)I" } : Jvm.MethodName)) ∈ lw_tbl := lw_at lw_m8 17 rfl
theorem q1841 : (Jvm.Cond.instanceMethod ({ cls := "SillBridgesModel", name := "inWords", desc := "(Ljava/lang/String;)I" } : Jvm.MethodName)) ∈ lw_all := lw_g (lw_at lw_m8 18 rfl) rfl
theorem q1842 : (Jvm.Cond.code ({ cls := "SillBridgesModel", name := "inWords", desc := "(Ljava/lang/String;)I" } : Jvm.MethodName) prog_21_method_25_code (7 : Nat) (Option.some Jvm.ClassFile.FieldType.int)) ∈ lw_all := lw_g (lw_at lw_m8 19 rfl) rfl
theorem q1843 : (Jvm.Cond.methodLink "SillBridgesModel" (164 : Nat) ({ cls := "java/lang/String", name := "length", desc := "()I" } : Jvm.MethodName)) ∈ lw_all := lw_g (lw_at lw_m8 20 rfl) rfl
theorem q1844 : (Jvm.Cond.methodLink "SillBridgesModel" (170 : Nat) ({ cls := "java/lang/String", name := "charAt", desc := "(I)C" } : Jvm.MethodName)) ∈ lw_all := lw_g (lw_at lw_m8 21 rfl) rfl
theorem q1845 : (Jvm.Cond.methodLink "SillBridgesModel" (217 : Nat) ({ cls := "SillBridgesModel", name := "newOne", desc := "(III)Z" } : Jvm.MethodName)) ∈ lw_all := lw_g (lw_at lw_m8 22 rfl) rfl
theorem q1846 : (Jvm.Cond.privateMethod ({ cls := "SillBridgesModel", name := "newOne", desc := "(III)Z" } : Jvm.MethodName)) ∈ lw_tbl := lw_at lw_m8 23 rfl
theorem q1847 : (Jvm.Cond.instanceMethod ({ cls := "SillBridgesModel", name := "newOne", desc := "(III)Z" } : Jvm.MethodName)) ∈ lw_all := lw_g (lw_at lw_m8 24 rfl) rfl
theorem q1848 : (Jvm.Cond.code ({ cls := "SillBridgesModel", name := "newOne", desc := "(III)Z" } : Jvm.MethodName) prog_21_method_37_code (4 : Nat) (Option.some Jvm.ClassFile.FieldType.boolean)) ∈ lw_all := lw_g (lw_at lw_m8 25 rfl) rfl
theorem q1849 : (Jvm.Cond.methodLink "SillBridgesModel" (186 : Nat) ({ cls := "SillBridgesModel", name := "fails", desc := "(I)Z" } : Jvm.MethodName)) ∈ lw_all := lw_g (lw_at lw_m8 26 rfl) rfl
theorem q1850 : (Jvm.Cond.privateMethod ({ cls := "SillBridgesModel", name := "fails", desc := "(I)Z" } : Jvm.MethodName)) ∈ lw_tbl := lw_at lw_m8 27 rfl
theorem q1851 : (Jvm.Cond.instanceMethod ({ cls := "SillBridgesModel", name := "fails", desc := "(I)Z" } : Jvm.MethodName)) ∈ lw_all := lw_g (lw_at lw_m8 28 rfl) rfl
theorem q1852 : (Jvm.Cond.code ({ cls := "SillBridgesModel", name := "fails", desc := "(I)Z" } : Jvm.MethodName) prog_21_method_26_code (2 : Nat) (Option.some Jvm.ClassFile.FieldType.boolean)) ∈ lw_all := lw_g (lw_at lw_m8 29 rfl) rfl
theorem q1853 : (Jvm.Cond.methodLink "SillBridgesModel" (202 : Nat) ({ cls := "SillBridgesModel", name := "isName", desc := "(Ljava/lang/String;)Z" } : Jvm.MethodName)) ∈ lw_all := lw_g (lw_at lw_m8 30 rfl) rfl
theorem q1854 : (Jvm.Cond.privateMethod ({ cls := "SillBridgesModel", name := "isName", desc := "(Ljava/lang/String;)Z" } : Jvm.MethodName)) ∈ lw_tbl := lw_at lw_m8 31 rfl
theorem q1855 : (Jvm.Cond.instanceMethod ({ cls := "SillBridgesModel", name := "isName", desc := "(Ljava/lang/String;)Z" } : Jvm.MethodName)) ∈ lw_all := lw_g (lw_at lw_m8 32 rfl) rfl
theorem q1856 : (Jvm.Cond.code ({ cls := "SillBridgesModel", name := "isName", desc := "(Ljava/lang/String;)Z" } : Jvm.MethodName) prog_21_method_31_code (2 : Nat) (Option.some Jvm.ClassFile.FieldType.boolean)) ∈ lw_all := lw_g (lw_at lw_m8 33 rfl) rfl
theorem q1857 : (Jvm.Cond.methodLink "SillBridgesModel" (206 : Nat) ({ cls := "SillBridgesModel", name := "isFree", desc := "()Z" } : Jvm.MethodName)) ∈ lw_all := lw_g (lw_at lw_m8 34 rfl) rfl
theorem q1858 : (Jvm.Cond.privateMethod ({ cls := "SillBridgesModel", name := "isFree", desc := "()Z" } : Jvm.MethodName)) ∈ lw_tbl := lw_at lw_m8 35 rfl
theorem q1859 : (Jvm.Cond.instanceMethod ({ cls := "SillBridgesModel", name := "isFree", desc := "()Z" } : Jvm.MethodName)) ∈ lw_all := lw_g (lw_at lw_m8 36 rfl) rfl
theorem q1860 : (Jvm.Cond.code ({ cls := "SillBridgesModel", name := "isFree", desc := "()Z" } : Jvm.MethodName) prog_21_method_36_code (1 : Nat) (Option.some Jvm.ClassFile.FieldType.boolean)) ∈ lw_all := lw_g (lw_at lw_m8 37 rfl) rfl
theorem q1861 : (Jvm.Cond.methodLink "SillBridgesModel" (197 : Nat) ({ cls := "SillBridgesModel", name := "findHere", desc := "(II)I" } : Jvm.MethodName)) ∈ lw_all := lw_g (lw_at lw_m8 38 rfl) rfl
theorem q1862 : (Jvm.Cond.privateMethod ({ cls := "SillBridgesModel", name := "findHere", desc := "(II)I" } : Jvm.MethodName)) ∈ lw_tbl := lw_at lw_m8 39 rfl
theorem q1863 : (Jvm.Cond.instanceMethod ({ cls := "SillBridgesModel", name := "findHere", desc := "(II)I" } : Jvm.MethodName)) ∈ lw_all := lw_g (lw_at lw_m8 40 rfl) rfl
theorem q1864 : (Jvm.Cond.code ({ cls := "SillBridgesModel", name := "findHere", desc := "(II)I" } : Jvm.MethodName) prog_21_method_33_code (4 : Nat) (Option.some Jvm.ClassFile.FieldType.int)) ∈ lw_all := lw_g (lw_at lw_m8 41 rfl) rfl
theorem q1865 : (Jvm.Cond.methodLink "SillBridgesModel" (193 : Nat) ({ cls := "SillBridgesModel", name := "nameHere", desc := "()J" } : Jvm.MethodName)) ∈ lw_all := lw_g (lw_at lw_m8 42 rfl) rfl
theorem q1866 : (Jvm.Cond.privateMethod ({ cls := "SillBridgesModel", name := "nameHere", desc := "()J" } : Jvm.MethodName)) ∈ lw_tbl := lw_at lw_m8 43 rfl
theorem q1867 : (Jvm.Cond.instanceMethod ({ cls := "SillBridgesModel", name := "nameHere", desc := "()J" } : Jvm.MethodName)) ∈ lw_all := lw_g (lw_at lw_m8 44 rfl) rfl
theorem q1868 : (Jvm.Cond.code ({ cls := "SillBridgesModel", name := "nameHere", desc := "()J" } : Jvm.MethodName) prog_21_method_32_code (4 : Nat) (Option.some Jvm.ClassFile.FieldType.long)) ∈ lw_all := lw_g (lw_at lw_m8 45 rfl) rfl
theorem q1869 : (Jvm.Cond.methodLink "SillBridgesModel" (230 : Nat) ({ cls := "SillBridgesModel", name := "aBridge", desc := "()Z" } : Jvm.MethodName)) ∈ lw_all := lw_g (lw_at lw_m8 46 rfl) rfl
theorem q1870 : (Jvm.Cond.privateMethod ({ cls := "SillBridgesModel", name := "aBridge", desc := "()Z" } : Jvm.MethodName)) ∈ lw_tbl := lw_at lw_m8 47 rfl
theorem q1871 : (Jvm.Cond.instanceMethod ({ cls := "SillBridgesModel", name := "aBridge", desc := "()Z" } : Jvm.MethodName)) ∈ lw_all := lw_g (lw_at lw_m8 48 rfl) rfl
theorem q1872 : (Jvm.Cond.code ({ cls := "SillBridgesModel", name := "aBridge", desc := "()Z" } : Jvm.MethodName) prog_21_method_40_code (6 : Nat) (Option.some Jvm.ClassFile.FieldType.boolean)) ∈ lw_all := lw_g (lw_at lw_m8 49 rfl) rfl
theorem q1873 : (Jvm.Cond.methodLink "SillBridgesModel" (220 : Nat) ({ cls := "SillBridgesModel", name := "wantWord", desc := "(Ljava/lang/String;I)Z" } : Jvm.MethodName)) ∈ lw_all := lw_g (lw_at lw_m8 50 rfl) rfl
theorem q1874 : (Jvm.Cond.privateMethod ({ cls := "SillBridgesModel", name := "wantWord", desc := "(Ljava/lang/String;I)Z" } : Jvm.MethodName)) ∈ lw_tbl := lw_at lw_m8 51 rfl
theorem q1875 : (Jvm.Cond.instanceMethod ({ cls := "SillBridgesModel", name := "wantWord", desc := "(Ljava/lang/String;I)Z" } : Jvm.MethodName)) ∈ lw_all := lw_g (lw_at lw_m8 52 rfl) rfl
theorem q1876 : (Jvm.Cond.code ({ cls := "SillBridgesModel", name := "wantWord", desc := "(Ljava/lang/String;I)Z" } : Jvm.MethodName) prog_21_method_29_code (3 : Nat) (Option.some Jvm.ClassFile.FieldType.boolean)) ∈ lw_all := lw_g (lw_at lw_m8 53 rfl) rfl
theorem q1877 : (Jvm.Cond.methodLink "SillBridgesModel" (224 : Nat) ({ cls := "SillBridgesModel", name := "aPlaceTo", desc := "(I)Z" } : Jvm.MethodName)) ∈ lw_all := lw_g (lw_at lw_m8 54 rfl) rfl
theorem q1878 : (Jvm.Cond.privateMethod ({ cls := "SillBridgesModel", name := "aPlaceTo", desc := "(I)Z" } : Jvm.MethodName)) ∈ lw_tbl := lw_at lw_m8 55 rfl
theorem q1879 : (Jvm.Cond.instanceMethod ({ cls := "SillBridgesModel", name := "aPlaceTo", desc := "(I)Z" } : Jvm.MethodName)) ∈ lw_all := lw_g (lw_at lw_m8 56 rfl) rfl
theorem q1880 : (Jvm.Cond.code ({ cls := "SillBridgesModel", name := "aPlaceTo", desc := "(I)Z" } : Jvm.MethodName) prog_21_method_39_code (2 : Nat) (Option.some Jvm.ClassFile.FieldType.boolean)) ∈ lw_all := lw_g (lw_at lw_m8 57 rfl) rfl
theorem q1881 : (Jvm.Cond.methodLink "SillBridgesModel" (213 : Nat) ({ cls := "SillBridgesModel", name := "oldOne", desc := "(III)Z" } : Jvm.MethodName)) ∈ lw_all := lw_g (lw_at lw_m8 58 rfl) rfl
theorem q1882 : (Jvm.Cond.privateMethod ({ cls := "SillBridgesModel", name := "oldOne", desc := "(III)Z" } : Jvm.MethodName)) ∈ lw_tbl := lw_at lw_m8 59 rfl
theorem q1883 : (Jvm.Cond.instanceMethod ({ cls := "SillBridgesModel", name := "oldOne", desc := "(III)Z" } : Jvm.MethodName)) ∈ lw_all := lw_g (lw_at lw_m8 60 rfl) rfl
theorem q1884 : (Jvm.Cond.code ({ cls := "SillBridgesModel", name := "oldOne", desc := "(III)Z" } : Jvm.MethodName) prog_21_method_38_code (4 : Nat) (Option.some Jvm.ClassFile.FieldType.boolean)) ∈ lw_all := lw_g (lw_at lw_m8 61 rfl) rfl
theorem q1885 : (Jvm.Cond.methodLink "SillBridgesModel" (227 : Nat) ({ cls := "SillBridgesModel", name := "number", desc := "(III)Z" } : Jvm.MethodName)) ∈ lw_all := lw_g (lw_at lw_m8 62 rfl) rfl
theorem q1886 : (Jvm.Cond.privateMethod ({ cls := "SillBridgesModel", name := "number", desc := "(III)Z" } : Jvm.MethodName)) ∈ lw_tbl := lw_at lw_m8 63 rfl
theorem q1887 : (Jvm.Cond.instanceMethod ({ cls := "SillBridgesModel", name := "number", desc := "(III)Z" } : Jvm.MethodName)) ∈ lw_all := lw_g (lw_at lw_m8 64 rfl) rfl
theorem q1888 : (Jvm.Cond.code ({ cls := "SillBridgesModel", name := "number", desc := "(III)Z" } : Jvm.MethodName) prog_21_method_30_code (4 : Nat) (Option.some Jvm.ClassFile.FieldType.boolean)) ∈ lw_all := lw_g (lw_at lw_m8 65 rfl) rfl
theorem q1889 : (Jvm.Cond.methodLink "SillBridgesModel" (233 : Nat) ({ cls := "SillBridgesModel", name := "aPerson", desc := "()Z" } : Jvm.MethodName)) ∈ lw_all := lw_g (lw_at lw_m8 66 rfl) rfl
theorem q1890 : (Jvm.Cond.privateMethod ({ cls := "SillBridgesModel", name := "aPerson", desc := "()Z" } : Jvm.MethodName)) ∈ lw_tbl := lw_at lw_m8 67 rfl
theorem q1891 : (Jvm.Cond.instanceMethod ({ cls := "SillBridgesModel", name := "aPerson", desc := "()Z" } : Jvm.MethodName)) ∈ lw_all := lw_g (lw_at lw_m8 68 rfl) rfl
theorem q1892 : (Jvm.Cond.code ({ cls := "SillBridgesModel", name := "aPerson", desc := "()Z" } : Jvm.MethodName) prog_21_method_41_code (2 : Nat) (Option.some Jvm.ClassFile.FieldType.boolean)) ∈ lw_all := lw_g (lw_at lw_m8 69 rfl) rfl
theorem q1893 : (Jvm.Cond.methodLink "SillBridgesModel" (236 : Nat) ({ cls := "SillBridgesModel", name := "aLoad", desc := "()Z" } : Jvm.MethodName)) ∈ lw_all := lw_g (lw_at lw_m8 70 rfl) rfl
theorem q1894 : (Jvm.Cond.privateMethod ({ cls := "SillBridgesModel", name := "aLoad", desc := "()Z" } : Jvm.MethodName)) ∈ lw_tbl := lw_at lw_m8 71 rfl
theorem q1895 : (Jvm.Cond.instanceMethod ({ cls := "SillBridgesModel", name := "aLoad", desc := "()Z" } : Jvm.MethodName)) ∈ lw_all := lw_g (lw_at lw_m8 72 rfl) rfl
theorem q1896 : (Jvm.Cond.code ({ cls := "SillBridgesModel", name := "aLoad", desc := "()Z" } : Jvm.MethodName) prog_21_method_42_code (2 : Nat) (Option.some Jvm.ClassFile.FieldType.boolean)) ∈ lw_all := lw_g (lw_at lw_m8 73 rfl) rfl
theorem q1897 : (Jvm.Cond.methodLink "SillBridgesModel" (239 : Nat) ({ cls := "SillBridgesModel", name := "aStone", desc := "()Z" } : Jvm.MethodName)) ∈ lw_all := lw_g (lw_at lw_m8 74 rfl) rfl
theorem q1898 : (Jvm.Cond.privateMethod ({ cls := "SillBridgesModel", name := "aStone", desc := "()Z" } : Jvm.MethodName)) ∈ lw_tbl := lw_at lw_m8 75 rfl
theorem q1899 : (Jvm.Cond.instanceMethod ({ cls := "SillBridgesModel", name := "aStone", desc := "()Z" } : Jvm.MethodName)) ∈ lw_all := lw_g (lw_at lw_m8 76 rfl) rfl
theorem q1900 : (Jvm.Cond.code ({ cls := "SillBridgesModel", name := "aStone", desc := "()Z" } : Jvm.MethodName) prog_21_method_43_code (1 : Nat) (Option.some Jvm.ClassFile.FieldType.boolean)) ∈ lw_all := lw_g (lw_at lw_m8 77 rfl) rfl
theorem q1901 : (Jvm.Cond.methodLink "SillBridgesModel" (242 : Nat) ({ cls := "SillBridgesModel", name := "wantSign", desc := "(I)Z" } : Jvm.MethodName)) ∈ lw_all := lw_g (lw_at lw_m8 78 rfl) rfl
theorem q1902 : (Jvm.Cond.privateMethod ({ cls := "SillBridgesModel", name := "wantSign", desc := "(I)Z" } : Jvm.MethodName)) ∈ lw_tbl := lw_at lw_m8 79 rfl
theorem q1903 : (Jvm.Cond.instanceMethod ({ cls := "SillBridgesModel", name := "wantSign", desc := "(I)Z" } : Jvm.MethodName)) ∈ lw_all := lw_g (lw_at lw_m8 80 rfl) rfl
theorem q1904 : (Jvm.Cond.code ({ cls := "SillBridgesModel", name := "wantSign", desc := "(I)Z" } : Jvm.MethodName) prog_21_method_28_code (2 : Nat) (Option.some Jvm.ClassFile.FieldType.boolean)) ∈ lw_all := lw_g (lw_at lw_m8 81 rfl) rfl
theorem q1905 : (Jvm.Cond.methodLink "SillBridgesModel" (183 : Nat) ({ cls := "SillBridgesModel", name := "isSign", desc := "(I)Z" } : Jvm.MethodName)) ∈ lw_all := lw_g (lw_at lw_m8 82 rfl) rfl
theorem q1906 : (Jvm.Cond.privateMethod ({ cls := "SillBridgesModel", name := "isSign", desc := "(I)Z" } : Jvm.MethodName)) ∈ lw_tbl := lw_at lw_m8 83 rfl
theorem q1907 : (Jvm.Cond.instanceMethod ({ cls := "SillBridgesModel", name := "isSign", desc := "(I)Z" } : Jvm.MethodName)) ∈ lw_all := lw_g (lw_at lw_m8 84 rfl) rfl
theorem q1908 : (Jvm.Cond.code ({ cls := "SillBridgesModel", name := "isSign", desc := "(I)Z" } : Jvm.MethodName) prog_21_method_24_code (2 : Nat) (Option.some Jvm.ClassFile.FieldType.boolean)) ∈ lw_all := lw_g (lw_at lw_m8 85 rfl) rfl
theorem q1909 : (Jvm.Cond.methodLink "SillBridgesModel" (252 : Nat) ({ cls := "SillBridgesModel", name := "startsOver", desc := "()V" } : Jvm.MethodName)) ∈ lw_all := lw_g (lw_at lw_m8 86 rfl) rfl
theorem q1910 : (Jvm.Cond.privateMethod ({ cls := "SillBridgesModel", name := "startsOver", desc := "()V" } : Jvm.MethodName)) ∈ lw_tbl := lw_at lw_m8 87 rfl
theorem q1911 : (Jvm.Cond.instanceMethod ({ cls := "SillBridgesModel", name := "startsOver", desc := "()V" } : Jvm.MethodName)) ∈ lw_all := lw_g (lw_at lw_m8 88 rfl) rfl
theorem q1912 : (Jvm.Cond.code ({ cls := "SillBridgesModel", name := "startsOver", desc := "()V" } : Jvm.MethodName) prog_21_method_46_code (2 : Nat) (Option.none : Option Jvm.ClassFile.FieldType)) ∈ lw_all := lw_g (lw_at lw_m8 89 rfl) rfl
theorem q1913 : (Jvm.Cond.methodLink "SillBridgesModel" (258 : Nat) ({ cls := "SillBridgesModel", name := "ofPerson", desc := "(II)I" } : Jvm.MethodName)) ∈ lw_all := lw_g (lw_at lw_m8 90 rfl) rfl
theorem q1914 : (Jvm.Cond.privateMethod ({ cls := "SillBridgesModel", name := "ofPerson", desc := "(II)I" } : Jvm.MethodName)) ∈ lw_tbl := lw_at lw_m8 91 rfl
theorem q1915 : (Jvm.Cond.instanceMethod ({ cls := "SillBridgesModel", name := "ofPerson", desc := "(II)I" } : Jvm.MethodName)) ∈ lw_all := lw_g (lw_at lw_m8 92 rfl) rfl
theorem q1916 : (Jvm.Cond.code ({ cls := "SillBridgesModel", name := "ofPerson", desc := "(II)I" } : Jvm.MethodName) prog_21_method_58_code (3 : Nat) (Option.some Jvm.ClassFile.FieldType.int)) ∈ lw_all := lw_g (lw_at lw_m8 93 rfl) rfl
theorem q1917 : (Jvm.Cond.methodLink "SillBridgesModel" (255 : Nat) ({ cls := "SillBridgesModel", name := "taken", desc := "(I)I" } : Jvm.MethodName)) ∈ lw_all := lw_g (lw_at lw_m8 94 rfl) rfl
theorem q1918 : (Jvm.Cond.privateMethod ({ cls := "SillBridgesModel", name := "taken", desc := "(I)I" } : Jvm.MethodName)) ∈ lw_tbl := lw_at lw_m8 95 rfl
theorem q1919 : (Jvm.Cond.instanceMethod ({ cls := "SillBridgesModel", name := "taken", desc := "(I)I" } : Jvm.MethodName)) ∈ lw_all := lw_g (lw_at lw_m8 96 rfl) rfl
theorem q1920 : (Jvm.Cond.code ({ cls := "SillBridgesModel", name := "taken", desc := "(I)I" } : Jvm.MethodName) prog_21_method_35_code (2 : Nat) (Option.some Jvm.ClassFile.FieldType.int)) ∈ lw_all := lw_g (lw_at lw_m8 97 rfl) rfl
theorem q1921 : (Jvm.Cond.methodLink "SillBridgesModel" (107 : Nat) ({ cls := "SillBridgesModel", name := "gives", desc := "(I)I" } : Jvm.MethodName)) ∈ lw_all := lw_g (lw_at lw_m8 98 rfl) rfl
theorem q1922 : (Jvm.Cond.privateMethod ({ cls := "SillBridgesModel", name := "gives", desc := "(I)I" } : Jvm.MethodName)) ∈ lw_tbl := lw_at lw_m8 99 rfl
theorem q1923 : (Jvm.Cond.instanceMethod ({ cls := "SillBridgesModel", name := "gives", desc := "(I)I" } : Jvm.MethodName)) ∈ lw_all := lw_g (lw_at lw_m8 100 rfl) rfl
theorem q1924 : (Jvm.Cond.code ({ cls := "SillBridgesModel", name := "gives", desc := "(I)I" } : Jvm.MethodName) prog_21_method_7_code (2 : Nat) (Option.some Jvm.ClassFile.FieldType.int)) ∈ lw_all := lw_g (lw_at lw_m8 101 rfl) rfl
theorem q1926 : (Jvm.Cond.instanceMethod ({ cls := "SillBridgesModel", name := "orders", desc := "(I)I" } : Jvm.MethodName)) ∈ lw_all := lw_g (lw_at lw_m8 103 rfl) rfl
theorem q1927 : (Jvm.Cond.selects "SillBridgesModel" ({ cls := "SillBridgesModel", name := "orders", desc := "(I)I" } : Jvm.MethodName) ({ cls := "SillBridgesModel", name := "orders", desc := "(I)I" } : Jvm.MethodName)) ∈ lw_all := lw_g (lw_at lw_m8 104 rfl) rfl
theorem q1928 : (Jvm.Cond.code ({ cls := "SillBridgesModel", name := "orders", desc := "(I)I" } : Jvm.MethodName) prog_21_method_52_code (4 : Nat) (Option.some Jvm.ClassFile.FieldType.int)) ∈ lw_all := lw_g (lw_at lw_m8 105 rfl) rfl
theorem q1929 : (Jvm.Cond.methodLink "SillBridgesModel" (279 : Nat) ({ cls := "SillBridgesModel", name := "step", desc := "()Z" } : Jvm.MethodName)) ∈ lw_all := lw_g (lw_at lw_m8 106 rfl) rfl
theorem q1930 : (Jvm.Cond.privateMethod ({ cls := "SillBridgesModel", name := "step", desc := "()Z" } : Jvm.MethodName)) ∈ lw_tbl := lw_at lw_m8 107 rfl
theorem q1931 : (Jvm.Cond.instanceMethod ({ cls := "SillBridgesModel", name := "step", desc := "()Z" } : Jvm.MethodName)) ∈ lw_all := lw_g (lw_at lw_m8 108 rfl) rfl
theorem q1932 : (Jvm.Cond.code ({ cls := "SillBridgesModel", name := "step", desc := "()Z" } : Jvm.MethodName) prog_21_method_51_code (7 : Nat) (Option.some Jvm.ClassFile.FieldType.boolean)) ∈ lw_all := lw_g (lw_at lw_m8 109 rfl) rfl
theorem q1933 : (Jvm.Cond.methodLink "SillBridgesModel" (276 : Nat) ({ cls := "SillBridgesModel", name := "order", desc := "(II)Z" } : Jvm.MethodName)) ∈ lw_all := lw_g (lw_at lw_m8 110 rfl) rfl
theorem q1934 : (Jvm.Cond.privateMethod ({ cls := "SillBridgesModel", name := "order", desc := "(II)Z" } : Jvm.MethodName)) ∈ lw_tbl := lw_at lw_m8 111 rfl
theorem q1935 : (Jvm.Cond.instanceMethod ({ cls := "SillBridgesModel", name := "order", desc := "(II)Z" } : Jvm.MethodName)) ∈ lw_all := lw_g (lw_at lw_m8 112 rfl) rfl
theorem q1936 : (Jvm.Cond.code ({ cls := "SillBridgesModel", name := "order", desc := "(II)Z" } : Jvm.MethodName) prog_21_method_50_code (3 : Nat) (Option.some Jvm.ClassFile.FieldType.boolean)) ∈ lw_all := lw_g (lw_at lw_m8 113 rfl) rfl
theorem q1937 : (Jvm.Cond.methodLink "SillBridgesModel" (264 : Nat) ({ cls := "SillBridgesModel", name := "aMan", desc := "(I)Z" } : Jvm.MethodName)) ∈ lw_all := lw_g (lw_at lw_m8 114 rfl) rfl
theorem q1938 : (Jvm.Cond.privateMethod ({ cls := "SillBridgesModel", name := "aMan", desc := "(I)Z" } : Jvm.MethodName)) ∈ lw_tbl := lw_at lw_m8 115 rfl
theorem q1939 : (Jvm.Cond.instanceMethod ({ cls := "SillBridgesModel", name := "aMan", desc := "(I)Z" } : Jvm.MethodName)) ∈ lw_all := lw_g (lw_at lw_m8 116 rfl) rfl
theorem q1940 : (Jvm.Cond.code ({ cls := "SillBridgesModel", name := "aMan", desc := "(I)Z" } : Jvm.MethodName) prog_21_method_48_code (2 : Nat) (Option.some Jvm.ClassFile.FieldType.boolean)) ∈ lw_all := lw_g (lw_at lw_m8 117 rfl) rfl
theorem q1941 : (Jvm.Cond.methodLink "SillBridgesModel" (261 : Nat) ({ cls := "SillBridgesModel", name := "orderName", desc := "(III)Z" } : Jvm.MethodName)) ∈ lw_all := lw_g (lw_at lw_m8 118 rfl) rfl
theorem q1942 : (Jvm.Cond.privateMethod ({ cls := "SillBridgesModel", name := "orderName", desc := "(III)Z" } : Jvm.MethodName)) ∈ lw_tbl := lw_at lw_m8 119 rfl
theorem q1943 : (Jvm.Cond.instanceMethod ({ cls := "SillBridgesModel", name := "orderName", desc := "(III)Z" } : Jvm.MethodName)) ∈ lw_all := lw_g (lw_at lw_m8 120 rfl) rfl
theorem q1944 : (Jvm.Cond.code ({ cls := "SillBridgesModel", name := "orderName", desc := "(III)Z" } : Jvm.MethodName) prog_21_method_47_code (4 : Nat) (Option.some Jvm.ClassFile.FieldType.boolean)) ∈ lw_all := lw_g (lw_at lw_m8 121 rfl) rfl
theorem q1945 : (Jvm.Cond.methodLink "SillBridgesModel" (267 : Nat) ({ cls := "SillBridgesModel", name := "aTest", desc := "(I)Z" } : Jvm.MethodName)) ∈ lw_all := lw_g (lw_at lw_m8 122 rfl) rfl
theorem q1946 : (Jvm.Cond.privateMethod ({ cls := "SillBridgesModel", name := "aTest", desc := "(I)Z" } : Jvm.MethodName)) ∈ lw_tbl := lw_at lw_m8 123 rfl
theorem q1947 : (Jvm.Cond.instanceMethod ({ cls := "SillBridgesModel", name := "aTest", desc := "(I)Z" } : Jvm.MethodName)) ∈ lw_all := lw_g (lw_at lw_m8 124 rfl) rfl
theorem q1948 : (Jvm.Cond.code ({ cls := "SillBridgesModel", name := "aTest", desc := "(I)Z" } : Jvm.MethodName) prog_21_method_49_code (3 : Nat) (Option.some Jvm.ClassFile.FieldType.boolean)) ∈ lw_all := lw_g (lw_at lw_m8 125 rfl) rfl
theorem q1950 : (Jvm.Cond.instanceMethod ({ cls := "SillBridgesModel", name := "told", desc := "(I)I" } : Jvm.MethodName)) ∈ lw_all := lw_g (lw_at lw_m8 127 rfl) rfl
theorem q1951 : (Jvm.Cond.selects "SillBridgesModel" ({ cls := "SillBridgesModel", name := "told", desc := "(I)I" } : Jvm.MethodName) ({ cls := "SillBridgesModel", name := "told", desc := "(I)I" } : Jvm.MethodName)) ∈ lw_all := lw_g (lw_at lw_m8 128 rfl) rfl
theorem q1952 : (Jvm.Cond.code ({ cls := "SillBridgesModel", name := "told", desc := "(I)I" } : Jvm.MethodName) prog_21_method_61_code (2 : Nat) (Option.some Jvm.ClassFile.FieldType.int)) ∈ lw_all := lw_g (lw_at lw_m8 129 rfl) rfl
theorem q1953 : (Jvm.Cond.methodLink "SillBridgesModel" (285 : Nat) ({ cls := "SillBridgesModel", name := "takesNow", desc := "()V" } : Jvm.MethodName)) ∈ lw_all := lw_g (lw_at lw_m8 130 rfl) rfl
theorem q1954 : (Jvm.Cond.privateMethod ({ cls := "SillBridgesModel", name := "takesNow", desc := "()V" } : Jvm.MethodName)) ∈ lw_tbl := lw_at lw_m8 131 rfl
theorem q1955 : (Jvm.Cond.instanceMethod ({ cls := "SillBridgesModel", name := "takesNow", desc := "()V" } : Jvm.MethodName)) ∈ lw_all := lw_g (lw_at lw_m8 132 rfl) rfl
theorem q1956 : (Jvm.Cond.code ({ cls := "SillBridgesModel", name := "takesNow", desc := "()V" } : Jvm.MethodName) prog_21_method_65_code (2 : Nat) (Option.none : Option Jvm.ClassFile.FieldType)) ∈ lw_all := lw_g (lw_at lw_m8 133 rfl) rfl
theorem q1957 : (Jvm.Cond.methodLink "SillBridgesModel" (288 : Nat) ({ cls := "SillBridgesModel", name := "isDone", desc := "()Z" } : Jvm.MethodName)) ∈ lw_all := lw_g (lw_at lw_m8 134 rfl) rfl
theorem q1958 : (Jvm.Cond.privateMethod ({ cls := "SillBridgesModel", name := "isDone", desc := "()Z" } : Jvm.MethodName)) ∈ lw_tbl := lw_at lw_m8 135 rfl
theorem q1959 : (Jvm.Cond.instanceMethod ({ cls := "SillBridgesModel", name := "isDone", desc := "()Z" } : Jvm.MethodName)) ∈ lw_all := lw_g (lw_at lw_m8 136 rfl) rfl
theorem q1960 : (Jvm.Cond.code ({ cls := "SillBridgesModel", name := "isDone", desc := "()Z" } : Jvm.MethodName) prog_21_method_60_code (3 : Nat) (Option.some Jvm.ClassFile.FieldType.boolean)) ∈ lw_all := lw_g (lw_at lw_m8 137 rfl) rfl
theorem q1962 : (Jvm.Cond.instanceMethod ({ cls := "SillBridgesModel", name := "bridge", desc := "(II)I" } : Jvm.MethodName)) ∈ lw_all := lw_g (lw_at lw_m8 139 rfl) rfl
theorem q1963 : (Jvm.Cond.selects "SillBridgesModel" ({ cls := "SillBridgesModel", name := "bridge", desc := "(II)I" } : Jvm.MethodName) ({ cls := "SillBridgesModel", name := "bridge", desc := "(II)I" } : Jvm.MethodName)) ∈ lw_all := lw_g (lw_at lw_m8 140 rfl) rfl
theorem q1964 : (Jvm.Cond.code ({ cls := "SillBridgesModel", name := "bridge", desc := "(II)I" } : Jvm.MethodName) prog_21_method_62_code (3 : Nat) (Option.some Jvm.ClassFile.FieldType.int)) ∈ lw_all := lw_g (lw_at lw_m8 141 rfl) rfl
theorem q1965 : (Jvm.Cond.methodLink "SillBridgesModel" (291 : Nat) ({ cls := "SillBridgesModel", name := "isBridge", desc := "(I)Z" } : Jvm.MethodName)) ∈ lw_all := lw_g (lw_at lw_m8 142 rfl) rfl
theorem q1966 : (Jvm.Cond.privateMethod ({ cls := "SillBridgesModel", name := "isBridge", desc := "(I)Z" } : Jvm.MethodName)) ∈ lw_tbl := lw_at lw_m8 143 rfl
theorem q1967 : (Jvm.Cond.instanceMethod ({ cls := "SillBridgesModel", name := "isBridge", desc := "(I)Z" } : Jvm.MethodName)) ∈ lw_all := lw_g (lw_at lw_m8 144 rfl) rfl
theorem q1968 : (Jvm.Cond.code ({ cls := "SillBridgesModel", name := "isBridge", desc := "(I)Z" } : Jvm.MethodName) prog_21_method_54_code (2 : Nat) (Option.some Jvm.ClassFile.FieldType.boolean)) ∈ lw_all := lw_g (lw_at lw_m8 145 rfl) rfl
theorem q1969 : (Jvm.Cond.methodLink "SillBridgesModel" (294 : Nat) ({ cls := "SillBridgesModel", name := "takesOf", desc := "(I)I" } : Jvm.MethodName)) ∈ lw_all := lw_g (lw_at lw_m8 146 rfl) rfl
theorem q1970 : (Jvm.Cond.privateMethod ({ cls := "SillBridgesModel", name := "takesOf", desc := "(I)I" } : Jvm.MethodName)) ∈ lw_tbl := lw_at lw_m8 147 rfl
theorem q1971 : (Jvm.Cond.instanceMethod ({ cls := "SillBridgesModel", name := "takesOf", desc := "(I)I" } : Jvm.MethodName)) ∈ lw_all := lw_g (lw_at lw_m8 148 rfl) rfl
theorem q1972 : (Jvm.Cond.code ({ cls := "SillBridgesModel", name := "takesOf", desc := "(I)I" } : Jvm.MethodName) prog_21_method_59_code (2 : Nat) (Option.some Jvm.ClassFile.FieldType.int)) ∈ lw_all := lw_g (lw_at lw_m8 149 rfl) rfl
theorem q1973 : (Jvm.Cond.methodLink "SillBridgesModel" (282 : Nat) ({ cls := "SillBridgesModel", name := "ofBridge", desc := "(II)I" } : Jvm.MethodName)) ∈ lw_all := lw_g (lw_at lw_m8 150 rfl) rfl
theorem q1974 : (Jvm.Cond.privateMethod ({ cls := "SillBridgesModel", name := "ofBridge", desc := "(II)I" } : Jvm.MethodName)) ∈ lw_tbl := lw_at lw_m8 151 rfl
theorem q1975 : (Jvm.Cond.instanceMethod ({ cls := "SillBridgesModel", name := "ofBridge", desc := "(II)I" } : Jvm.MethodName)) ∈ lw_all := lw_g (lw_at lw_m8 152 rfl) rfl
theorem q1976 : (Jvm.Cond.code ({ cls := "SillBridgesModel", name := "ofBridge", desc := "(II)I" } : Jvm.MethodName) prog_21_method_57_code (3 : Nat) (Option.some Jvm.ClassFile.FieldType.int)) ∈ lw_all := lw_g (lw_at lw_m8 153 rfl) rfl
theorem q1978 : (Jvm.Cond.instanceMethod ({ cls := "SillBridgesModel", name := "person", desc := "(II)I" } : Jvm.MethodName)) ∈ lw_all := lw_g (lw_at lw_m8 155 rfl) rfl
theorem q1979 : (Jvm.Cond.selects "SillBridgesModel" ({ cls := "SillBridgesModel", name := "person", desc := "(II)I" } : Jvm.MethodName) ({ cls := "SillBridgesModel", name := "person", desc := "(II)I" } : Jvm.MethodName)) ∈ lw_all := lw_g (lw_at lw_m8 156 rfl) rfl
theorem q1980 : (Jvm.Cond.code ({ cls := "SillBridgesModel", name := "person", desc := "(II)I" } : Jvm.MethodName) prog_21_method_63_code (3 : Nat) (Option.some Jvm.ClassFile.FieldType.int)) ∈ lw_all := lw_g (lw_at lw_m8 157 rfl) rfl
theorem q1981 : (Jvm.Cond.methodLink "SillBridgesModel" (297 : Nat) ({ cls := "SillBridgesModel", name := "isPerson", desc := "(I)Z" } : Jvm.MethodName)) ∈ lw_all := lw_g (lw_at lw_m8 158 rfl) rfl
theorem q1982 : (Jvm.Cond.privateMethod ({ cls := "SillBridgesModel", name := "isPerson", desc := "(I)Z" } : Jvm.MethodName)) ∈ lw_tbl := lw_at lw_m8 159 rfl
theorem q1983 : (Jvm.Cond.instanceMethod ({ cls := "SillBridgesModel", name := "isPerson", desc := "(I)Z" } : Jvm.MethodName)) ∈ lw_all := lw_g (lw_at lw_m8 160 rfl) rfl
theorem q1984 : (Jvm.Cond.code ({ cls := "SillBridgesModel", name := "isPerson", desc := "(I)Z" } : Jvm.MethodName) prog_21_method_55_code (2 : Nat) (Option.some Jvm.ClassFile.FieldType.boolean)) ∈ lw_all := lw_g (lw_at lw_m8 161 rfl) rfl
theorem q1985 : (Jvm.Cond.methodLink "SillBridgesModel" (300 : Nat) ({ cls := "SillBridgesModel", name := "orNone", desc := "(I)I" } : Jvm.MethodName)) ∈ lw_all := lw_g (lw_at lw_m8 162 rfl) rfl
theorem q1986 : (Jvm.Cond.privateMethod ({ cls := "SillBridgesModel", name := "orNone", desc := "(I)I" } : Jvm.MethodName)) ∈ lw_tbl := lw_at lw_m8 163 rfl
theorem q1987 : (Jvm.Cond.instanceMethod ({ cls := "SillBridgesModel", name := "orNone", desc := "(I)I" } : Jvm.MethodName)) ∈ lw_all := lw_g (lw_at lw_m8 164 rfl) rfl
theorem q1988 : (Jvm.Cond.code ({ cls := "SillBridgesModel", name := "orNone", desc := "(I)I" } : Jvm.MethodName) prog_21_method_8_code (2 : Nat) (Option.some Jvm.ClassFile.FieldType.int)) ∈ lw_all := lw_g (lw_at lw_m8 165 rfl) rfl
theorem q1990 : (Jvm.Cond.instanceMethod ({ cls := "SillBridgesModel", name := "stones", desc := "(I)I" } : Jvm.MethodName)) ∈ lw_all := lw_g (lw_at lw_m8 167 rfl) rfl
theorem q1991 : (Jvm.Cond.selects "SillBridgesModel" ({ cls := "SillBridgesModel", name := "stones", desc := "(I)I" } : Jvm.MethodName) ({ cls := "SillBridgesModel", name := "stones", desc := "(I)I" } : Jvm.MethodName)) ∈ lw_all := lw_g (lw_at lw_m8 168 rfl) rfl
theorem q1992 : (Jvm.Cond.code ({ cls := "SillBridgesModel", name := "stones", desc := "(I)I" } : Jvm.MethodName) prog_21_method_64_code (2 : Nat) (Option.some Jvm.ClassFile.FieldType.int)) ∈ lw_all := lw_g (lw_at lw_m8 169 rfl) rfl
theorem q1993 : (Jvm.Cond.methodLink "SillBridgesModel" (303 : Nat) ({ cls := "SillBridgesModel", name := "isPlace", desc := "(I)Z" } : Jvm.MethodName)) ∈ lw_all := lw_g (lw_at lw_m8 170 rfl) rfl
theorem q1994 : (Jvm.Cond.privateMethod ({ cls := "SillBridgesModel", name := "isPlace", desc := "(I)Z" } : Jvm.MethodName)) ∈ lw_tbl := lw_at lw_m8 171 rfl
theorem q1995 : (Jvm.Cond.instanceMethod ({ cls := "SillBridgesModel", name := "isPlace", desc := "(I)Z" } : Jvm.MethodName)) ∈ lw_all := lw_g (lw_at lw_m8 172 rfl) rfl
theorem q1996 : (Jvm.Cond.code ({ cls := "SillBridgesModel", name := "isPlace", desc := "(I)Z" } : Jvm.MethodName) prog_21_method_53_code (2 : Nat) (Option.some Jvm.ClassFile.FieldType.boolean)) ∈ lw_all := lw_g (lw_at lw_m8 173 rfl) rfl
theorem q1998 : (Jvm.Cond.instanceMethod ({ cls := "SillBridgesModel", name := "at", desc := "(I)I" } : Jvm.MethodName)) ∈ lw_all := lw_g (lw_at lw_m8 175 rfl) rfl
theorem q1999 : (Jvm.Cond.selects "SillBridgesModel" ({ cls := "SillBridgesModel", name := "at", desc := "(I)I" } : Jvm.MethodName) ({ cls := "SillBridgesModel", name := "at", desc := "(I)I" } : Jvm.MethodName)) ∈ lw_all := lw_g (lw_at lw_m8 176 rfl) rfl
theorem q2000 : (Jvm.Cond.code ({ cls := "SillBridgesModel", name := "at", desc := "(I)I" } : Jvm.MethodName) prog_21_method_73_code (2 : Nat) (Option.some Jvm.ClassFile.FieldType.int)) ∈ lw_all := lw_g (lw_at lw_m8 177 rfl) rfl
theorem q2002 : (Jvm.Cond.instanceMethod ({ cls := "SillBridgesModel", name := "carries", desc := "(I)I" } : Jvm.MethodName)) ∈ lw_all := lw_g (lw_at lw_m8 179 rfl) rfl
theorem q2003 : (Jvm.Cond.selects "SillBridgesModel" ({ cls := "SillBridgesModel", name := "carries", desc := "(I)I" } : Jvm.MethodName) ({ cls := "SillBridgesModel", name := "carries", desc := "(I)I" } : Jvm.MethodName)) ∈ lw_all := lw_g (lw_at lw_m8 180 rfl) rfl
theorem q2004 : (Jvm.Cond.code ({ cls := "SillBridgesModel", name := "carries", desc := "(I)I" } : Jvm.MethodName) prog_21_method_74_code (2 : Nat) (Option.some Jvm.ClassFile.FieldType.int)) ∈ lw_all := lw_g (lw_at lw_m8 181 rfl) rfl
theorem q2005 : (Jvm.Cond.methodLink "SillBridgesModel" (306 : Nat) ({ cls := "SillBridgesModel", name := "loadOf", desc := "(I)I" } : Jvm.MethodName)) ∈ lw_all := lw_g (lw_at lw_m8 182 rfl) rfl
theorem q2006 : (Jvm.Cond.privateMethod ({ cls := "SillBridgesModel", name := "loadOf", desc := "(I)I" } : Jvm.MethodName)) ∈ lw_tbl := lw_at lw_m8 183 rfl
theorem q2007 : (Jvm.Cond.instanceMethod ({ cls := "SillBridgesModel", name := "loadOf", desc := "(I)I" } : Jvm.MethodName)) ∈ lw_all := lw_g (lw_at lw_m8 184 rfl) rfl
theorem q2008 : (Jvm.Cond.code ({ cls := "SillBridgesModel", name := "loadOf", desc := "(I)I" } : Jvm.MethodName) prog_21_method_69_code (3 : Nat) (Option.some Jvm.ClassFile.FieldType.int)) ∈ lw_all := lw_g (lw_at lw_m8 185 rfl) rfl
theorem q2010 : (Jvm.Cond.instanceMethod ({ cls := "SillBridgesModel", name := "load", desc := "(II)I" } : Jvm.MethodName)) ∈ lw_all := lw_g (lw_at lw_m8 187 rfl) rfl
theorem q2011 : (Jvm.Cond.selects "SillBridgesModel" ({ cls := "SillBridgesModel", name := "load", desc := "(II)I" } : Jvm.MethodName) ({ cls := "SillBridgesModel", name := "load", desc := "(II)I" } : Jvm.MethodName)) ∈ lw_all := lw_g (lw_at lw_m8 188 rfl) rfl
theorem q2012 : (Jvm.Cond.code ({ cls := "SillBridgesModel", name := "load", desc := "(II)I" } : Jvm.MethodName) prog_21_method_75_code (4 : Nat) (Option.some Jvm.ClassFile.FieldType.int)) ∈ lw_all := lw_g (lw_at lw_m8 189 rfl) rfl
theorem q2013 : (Jvm.Cond.methodLink "SillBridgesModel" (321 : Nat) ({ cls := "SillBridgesModel", name := "isLoad", desc := "(I)Z" } : Jvm.MethodName)) ∈ lw_all := lw_g (lw_at lw_m8 190 rfl) rfl
theorem q2014 : (Jvm.Cond.privateMethod ({ cls := "SillBridgesModel", name := "isLoad", desc := "(I)Z" } : Jvm.MethodName)) ∈ lw_tbl := lw_at lw_m8 191 rfl
theorem q2015 : (Jvm.Cond.instanceMethod ({ cls := "SillBridgesModel", name := "isLoad", desc := "(I)Z" } : Jvm.MethodName)) ∈ lw_all := lw_g (lw_at lw_m8 192 rfl) rfl
theorem q2016 : (Jvm.Cond.code ({ cls := "SillBridgesModel", name := "isLoad", desc := "(I)Z" } : Jvm.MethodName) prog_21_method_56_code (2 : Nat) (Option.some Jvm.ClassFile.FieldType.boolean)) ∈ lw_all := lw_g (lw_at lw_m8 193 rfl) rfl
theorem q2018 : (Jvm.Cond.instanceMethod ({ cls := "SillBridgesModel", name := "weight", desc := "(I)I" } : Jvm.MethodName)) ∈ lw_all := lw_g (lw_at lw_m8 195 rfl) rfl
theorem q2019 : (Jvm.Cond.selects "SillBridgesModel" ({ cls := "SillBridgesModel", name := "weight", desc := "(I)I" } : Jvm.MethodName) ({ cls := "SillBridgesModel", name := "weight", desc := "(I)I" } : Jvm.MethodName)) ∈ lw_all := lw_g (lw_at lw_m8 196 rfl) rfl
theorem q2020 : (Jvm.Cond.code ({ cls := "SillBridgesModel", name := "weight", desc := "(I)I" } : Jvm.MethodName) prog_21_method_76_code (2 : Nat) (Option.some Jvm.ClassFile.FieldType.int)) ∈ lw_all := lw_g (lw_at lw_m8 197 rfl) rfl
theorem q2021 : (Jvm.Cond.methodLink "SillBridgesModel" (318 : Nat) ({ cls := "SillBridgesModel", name := "weightAt", desc := "(I)I" } : Jvm.MethodName)) ∈ lw_all := lw_g (lw_at lw_m8 198 rfl) rfl
theorem q2022 : (Jvm.Cond.privateMethod ({ cls := "SillBridgesModel", name := "weightAt", desc := "(I)I" } : Jvm.MethodName)) ∈ lw_tbl := lw_at lw_m8 199 rfl
theorem q2023 : (Jvm.Cond.instanceMethod ({ cls := "SillBridgesModel", name := "weightAt", desc := "(I)I" } : Jvm.MethodName)) ∈ lw_all := lw_g (lw_at lw_m8 200 rfl) rfl
theorem q2024 : (Jvm.Cond.code ({ cls := "SillBridgesModel", name := "weightAt", desc := "(I)I" } : Jvm.MethodName) prog_21_method_71_code (4 : Nat) (Option.some Jvm.ClassFile.FieldType.int)) ∈ lw_all := lw_g (lw_at lw_m8 201 rfl) rfl
theorem q2025 : (Jvm.Cond.methodLink "SillBridgesModel" (315 : Nat) ({ cls := "SillBridgesModel", name := "burden", desc := "(I)I" } : Jvm.MethodName)) ∈ lw_all := lw_g (lw_at lw_m8 202 rfl) rfl
theorem q2026 : (Jvm.Cond.privateMethod ({ cls := "SillBridgesModel", name := "burden", desc := "(I)I" } : Jvm.MethodName)) ∈ lw_tbl := lw_at lw_m8 203 rfl
theorem q2027 : (Jvm.Cond.instanceMethod ({ cls := "SillBridgesModel", name := "burden", desc := "(I)I" } : Jvm.MethodName)) ∈ lw_all := lw_g (lw_at lw_m8 204 rfl) rfl
theorem q2028 : (Jvm.Cond.code ({ cls := "SillBridgesModel", name := "burden", desc := "(I)I" } : Jvm.MethodName) prog_21_method_70_code (2 : Nat) (Option.some Jvm.ClassFile.FieldType.int)) ∈ lw_all := lw_g (lw_at lw_m8 205 rfl) rfl
theorem q2030 : (Jvm.Cond.instanceMethod ({ cls := "SillBridgesModel", name := "hangs", desc := "(I)I" } : Jvm.MethodName)) ∈ lw_all := lw_g (lw_at lw_m8 207 rfl) rfl
theorem q2031 : (Jvm.Cond.selects "SillBridgesModel" ({ cls := "SillBridgesModel", name := "hangs", desc := "(I)I" } : Jvm.MethodName) ({ cls := "SillBridgesModel", name := "hangs", desc := "(I)I" } : Jvm.MethodName)) ∈ lw_all := lw_g (lw_at lw_m8 208 rfl) rfl
theorem q2032 : (Jvm.Cond.code ({ cls := "SillBridgesModel", name := "hangs", desc := "(I)I" } : Jvm.MethodName) prog_21_method_77_code (2 : Nat) (Option.some Jvm.ClassFile.FieldType.int)) ∈ lw_all := lw_g (lw_at lw_m8 209 rfl) rfl
theorem q2033 : (Jvm.Cond.methodLink "SillBridgesModel" (324 : Nat) ({ cls := "SillBridgesModel", name := "hangsBy", desc := "(II)Z" } : Jvm.MethodName)) ∈ lw_all := lw_g (lw_at lw_m8 210 rfl) rfl
theorem q2034 : (Jvm.Cond.privateMethod ({ cls := "SillBridgesModel", name := "hangsBy", desc := "(II)Z" } : Jvm.MethodName)) ∈ lw_tbl := lw_at lw_m8 211 rfl
theorem q2035 : (Jvm.Cond.instanceMethod ({ cls := "SillBridgesModel", name := "hangsBy", desc := "(II)Z" } : Jvm.MethodName)) ∈ lw_all := lw_g (lw_at lw_m8 212 rfl) rfl
theorem q2036 : (Jvm.Cond.code ({ cls := "SillBridgesModel", name := "hangsBy", desc := "(II)Z" } : Jvm.MethodName) prog_21_method_72_code (5 : Nat) (Option.some Jvm.ClassFile.FieldType.boolean)) ∈ lw_all := lw_g (lw_at lw_m8 213 rfl) rfl
theorem q2038 : (Jvm.Cond.instanceMethod ({ cls := "SillBridgesModel", name := "put", desc := "(II)Z" } : Jvm.MethodName)) ∈ lw_all := lw_g (lw_at lw_m8 215 rfl) rfl
theorem q2039 : (Jvm.Cond.selects "SillBridgesModel" ({ cls := "SillBridgesModel", name := "put", desc := "(II)Z" } : Jvm.MethodName) ({ cls := "SillBridgesModel", name := "put", desc := "(II)Z" } : Jvm.MethodName)) ∈ lw_all := lw_g (lw_at lw_m8 216 rfl) rfl
theorem q2040 : (Jvm.Cond.code ({ cls := "SillBridgesModel", name := "put", desc := "(II)Z" } : Jvm.MethodName) prog_21_method_78_code (3 : Nat) (Option.some Jvm.ClassFile.FieldType.boolean)) ∈ lw_all := lw_g (lw_at lw_m8 217 rfl) rfl
theorem q2042 : (Jvm.Cond.instanceMethod ({ cls := "SillBridgesModel", name := "begin", desc := "()Z" } : Jvm.MethodName)) ∈ lw_all := lw_g (lw_at lw_m8 219 rfl) rfl
theorem q2043 : (Jvm.Cond.selects "SillBridgesModel" ({ cls := "SillBridgesModel", name := "begin", desc := "()Z" } : Jvm.MethodName) ({ cls := "SillBridgesModel", name := "begin", desc := "()Z" } : Jvm.MethodName)) ∈ lw_all := lw_g (lw_at lw_m8 220 rfl) rfl
theorem q2044 : (Jvm.Cond.code ({ cls := "SillBridgesModel", name := "begin", desc := "()Z" } : Jvm.MethodName) prog_21_method_79_code (1 : Nat) (Option.some Jvm.ClassFile.FieldType.boolean)) ∈ lw_all := lw_g (lw_at lw_m8 221 rfl) rfl
theorem q2046 : (Jvm.Cond.instanceMethod ({ cls := "SillBridgesModel", name := "go", desc := "(II)Z" } : Jvm.MethodName)) ∈ lw_all := lw_g (lw_at lw_m8 223 rfl) rfl
theorem q2047 : (Jvm.Cond.selects "SillBridgesModel" ({ cls := "SillBridgesModel", name := "go", desc := "(II)Z" } : Jvm.MethodName) ({ cls := "SillBridgesModel", name := "go", desc := "(II)Z" } : Jvm.MethodName)) ∈ lw_all := lw_g (lw_at lw_m8 224 rfl) rfl
theorem q2048 : (Jvm.Cond.code ({ cls := "SillBridgesModel", name := "go", desc := "(II)Z" } : Jvm.MethodName) prog_21_method_86_code (3 : Nat) (Option.some Jvm.ClassFile.FieldType.boolean)) ∈ lw_all := lw_g (lw_at lw_m8 225 rfl) rfl
theorem q2049 : (Jvm.Cond.methodLink "SillBridgesModel" (338 : Nat) ({ cls := "SillBridgesModel", name := "goesOver", desc := "(III)Z" } : Jvm.MethodName)) ∈ lw_all := lw_g (lw_at lw_m8 226 rfl) rfl
theorem q2050 : (Jvm.Cond.privateMethod ({ cls := "SillBridgesModel", name := "goesOver", desc := "(III)Z" } : Jvm.MethodName)) ∈ lw_tbl := lw_at lw_m8 227 rfl
theorem q2051 : (Jvm.Cond.instanceMethod ({ cls := "SillBridgesModel", name := "goesOver", desc := "(III)Z" } : Jvm.MethodName)) ∈ lw_all := lw_g (lw_at lw_m8 228 rfl) rfl
theorem q2052 : (Jvm.Cond.code ({ cls := "SillBridgesModel", name := "goesOver", desc := "(III)Z" } : Jvm.MethodName) prog_21_method_82_code (4 : Nat) (Option.some Jvm.ClassFile.FieldType.boolean)) ∈ lw_all := lw_g (lw_at lw_m8 229 rfl) rfl
theorem q2053 : (Jvm.Cond.methodLink "SillBridgesModel" (327 : Nat) ({ cls := "SillBridgesModel", name := "whyNot", desc := "(III)I" } : Jvm.MethodName)) ∈ lw_all := lw_g (lw_at lw_m8 230 rfl) rfl
theorem q2054 : (Jvm.Cond.privateMethod ({ cls := "SillBridgesModel", name := "whyNot", desc := "(III)I" } : Jvm.MethodName)) ∈ lw_tbl := lw_at lw_m8 231 rfl
theorem q2055 : (Jvm.Cond.instanceMethod ({ cls := "SillBridgesModel", name := "whyNot", desc := "(III)I" } : Jvm.MethodName)) ∈ lw_all := lw_g (lw_at lw_m8 232 rfl) rfl
theorem q2056 : (Jvm.Cond.code ({ cls := "SillBridgesModel", name := "whyNot", desc := "(III)I" } : Jvm.MethodName) prog_21_method_80_code (6 : Nat) (Option.some Jvm.ClassFile.FieldType.int)) ∈ lw_all := lw_g (lw_at lw_m8 233 rfl) rfl
theorem q2057 : (Jvm.Cond.methodLink "SillBridgesModel" (331 : Nat) ({ cls := "SillBridgesModel", name := "crosses", desc := "(II)V" } : Jvm.MethodName)) ∈ lw_all := lw_g (lw_at lw_m8 234 rfl) rfl
theorem q2058 : (Jvm.Cond.privateMethod ({ cls := "SillBridgesModel", name := "crosses", desc := "(II)V" } : Jvm.MethodName)) ∈ lw_tbl := lw_at lw_m8 235 rfl
theorem q2059 : (Jvm.Cond.instanceMethod ({ cls := "SillBridgesModel", name := "crosses", desc := "(II)V" } : Jvm.MethodName)) ∈ lw_all := lw_g (lw_at lw_m8 236 rfl) rfl
theorem q2060 : (Jvm.Cond.code ({ cls := "SillBridgesModel", name := "crosses", desc := "(II)V" } : Jvm.MethodName) prog_21_method_81_code (3 : Nat) (Option.none : Option Jvm.ClassFile.FieldType)) ∈ lw_all := lw_g (lw_at lw_m8 237 rfl) rfl
theorem q2061 : (Jvm.Cond.methodLink "SillBridgesModel" (341 : Nat) ({ cls := "SillBridgesModel", name := "doneOr", desc := "(Z)Z" } : Jvm.MethodName)) ∈ lw_all := lw_g (lw_at lw_m8 238 rfl) rfl
theorem q2062 : (Jvm.Cond.privateMethod ({ cls := "SillBridgesModel", name := "doneOr", desc := "(Z)Z" } : Jvm.MethodName)) ∈ lw_tbl := lw_at lw_m8 239 rfl
theorem q2063 : (Jvm.Cond.instanceMethod ({ cls := "SillBridgesModel", name := "doneOr", desc := "(Z)Z" } : Jvm.MethodName)) ∈ lw_all := lw_g (lw_at lw_m9 0 rfl) rfl
theorem q2064 : (Jvm.Cond.code ({ cls := "SillBridgesModel", name := "doneOr", desc := "(Z)Z" } : Jvm.MethodName) prog_21_method_85_code (2 : Nat) (Option.some Jvm.ClassFile.FieldType.boolean)) ∈ lw_all := lw_g (lw_at lw_m9 1 rfl) rfl
theorem q2065 : (Jvm.Cond.methodLink "SillBridgesModel" (335 : Nat) ({ cls := "SillBridgesModel", name := "staysSo", desc := "()V" } : Jvm.MethodName)) ∈ lw_all := lw_g (lw_at lw_m9 2 rfl) rfl
theorem q2066 : (Jvm.Cond.privateMethod ({ cls := "SillBridgesModel", name := "staysSo", desc := "()V" } : Jvm.MethodName)) ∈ lw_tbl := lw_at lw_m9 3 rfl
theorem q2067 : (Jvm.Cond.instanceMethod ({ cls := "SillBridgesModel", name := "staysSo", desc := "()V" } : Jvm.MethodName)) ∈ lw_all := lw_g (lw_at lw_m9 4 rfl) rfl
theorem q2068 : (Jvm.Cond.code ({ cls := "SillBridgesModel", name := "staysSo", desc := "()V" } : Jvm.MethodName) prog_21_method_66_code (2 : Nat) (Option.none : Option Jvm.ClassFile.FieldType)) ∈ lw_all := lw_g (lw_at lw_m9 5 rfl) rfl
theorem q2070 : (Jvm.Cond.instanceMethod ({ cls := "SillBridgesModel", name := "both", desc := "(III)Z" } : Jvm.MethodName)) ∈ lw_all := lw_g (lw_at lw_m9 7 rfl) rfl
theorem q2071 : (Jvm.Cond.selects "SillBridgesModel" ({ cls := "SillBridgesModel", name := "both", desc := "(III)Z" } : Jvm.MethodName) ({ cls := "SillBridgesModel", name := "both", desc := "(III)Z" } : Jvm.MethodName)) ∈ lw_all := lw_g (lw_at lw_m9 8 rfl) rfl
theorem q2072 : (Jvm.Cond.code ({ cls := "SillBridgesModel", name := "both", desc := "(III)Z" } : Jvm.MethodName) prog_21_method_88_code (4 : Nat) (Option.some Jvm.ClassFile.FieldType.boolean)) ∈ lw_all := lw_g (lw_at lw_m9 9 rfl) rfl
theorem q2073 : (Jvm.Cond.methodLink "SillBridgesModel" (345 : Nat) ({ cls := "SillBridgesModel", name := "areTwo", desc := "(II)Z" } : Jvm.MethodName)) ∈ lw_all := lw_g (lw_at lw_m9 10 rfl) rfl
theorem q2074 : (Jvm.Cond.privateMethod ({ cls := "SillBridgesModel", name := "areTwo", desc := "(II)Z" } : Jvm.MethodName)) ∈ lw_tbl := lw_at lw_m9 11 rfl
theorem q2075 : (Jvm.Cond.instanceMethod ({ cls := "SillBridgesModel", name := "areTwo", desc := "(II)Z" } : Jvm.MethodName)) ∈ lw_all := lw_g (lw_at lw_m9 12 rfl) rfl
theorem q2076 : (Jvm.Cond.code ({ cls := "SillBridgesModel", name := "areTwo", desc := "(II)Z" } : Jvm.MethodName) prog_21_method_87_code (3 : Nat) (Option.some Jvm.ClassFile.FieldType.boolean)) ∈ lw_all := lw_g (lw_at lw_m9 13 rfl) rfl
theorem q2078 : (Jvm.Cond.instanceMethod ({ cls := "SillBridgesModel", name := "why", desc := "(III)I" } : Jvm.MethodName)) ∈ lw_all := lw_g (lw_at lw_m9 15 rfl) rfl
theorem q2079 : (Jvm.Cond.selects "SillBridgesModel" ({ cls := "SillBridgesModel", name := "why", desc := "(III)I" } : Jvm.MethodName) ({ cls := "SillBridgesModel", name := "why", desc := "(III)I" } : Jvm.MethodName)) ∈ lw_all := lw_g (lw_at lw_m9 16 rfl) rfl
theorem q2080 : (Jvm.Cond.code ({ cls := "SillBridgesModel", name := "why", desc := "(III)I" } : Jvm.MethodName) prog_21_method_89_code (4 : Nat) (Option.some Jvm.ClassFile.FieldType.int)) ∈ lw_all := lw_g (lw_at lw_m9 17 rfl) rfl
theorem q2082 : (Jvm.Cond.instanceMethod ({ cls := "SillBridgesModel", name := "lift", desc := "(II)Z" } : Jvm.MethodName)) ∈ lw_all := lw_g (lw_at lw_m9 19 rfl) rfl
theorem q2083 : (Jvm.Cond.selects "SillBridgesModel" ({ cls := "SillBridgesModel", name := "lift", desc := "(II)Z" } : Jvm.MethodName) ({ cls := "SillBridgesModel", name := "lift", desc := "(II)Z" } : Jvm.MethodName)) ∈ lw_all := lw_g (lw_at lw_m9 20 rfl) rfl
theorem q2084 : (Jvm.Cond.code ({ cls := "SillBridgesModel", name := "lift", desc := "(II)Z" } : Jvm.MethodName) prog_21_method_90_code (3 : Nat) (Option.some Jvm.ClassFile.FieldType.boolean)) ∈ lw_all := lw_g (lw_at lw_m9 21 rfl) rfl
theorem q2085 : (Jvm.Cond.methodLink "SillBridgesModel" (348 : Nat) ({ cls := "SillBridgesModel", name := "lifts", desc := "(II)Z" } : Jvm.MethodName)) ∈ lw_all := lw_g (lw_at lw_m9 22 rfl) rfl
theorem q2086 : (Jvm.Cond.privateMethod ({ cls := "SillBridgesModel", name := "lifts", desc := "(II)Z" } : Jvm.MethodName)) ∈ lw_tbl := lw_at lw_m9 23 rfl
theorem q2087 : (Jvm.Cond.instanceMethod ({ cls := "SillBridgesModel", name := "lifts", desc := "(II)Z" } : Jvm.MethodName)) ∈ lw_all := lw_g (lw_at lw_m9 24 rfl) rfl
theorem q2088 : (Jvm.Cond.code ({ cls := "SillBridgesModel", name := "lifts", desc := "(II)Z" } : Jvm.MethodName) prog_21_method_83_code (3 : Nat) (Option.some Jvm.ClassFile.FieldType.boolean)) ∈ lw_all := lw_g (lw_at lw_m9 25 rfl) rfl
theorem q2090 : (Jvm.Cond.instanceMethod ({ cls := "SillBridgesModel", name := "drop", desc := "(I)Z" } : Jvm.MethodName)) ∈ lw_all := lw_g (lw_at lw_m9 27 rfl) rfl
theorem q2091 : (Jvm.Cond.selects "SillBridgesModel" ({ cls := "SillBridgesModel", name := "drop", desc := "(I)Z" } : Jvm.MethodName) ({ cls := "SillBridgesModel", name := "drop", desc := "(I)Z" } : Jvm.MethodName)) ∈ lw_all := lw_g (lw_at lw_m9 28 rfl) rfl
theorem q2092 : (Jvm.Cond.code ({ cls := "SillBridgesModel", name := "drop", desc := "(I)Z" } : Jvm.MethodName) prog_21_method_91_code (2 : Nat) (Option.some Jvm.ClassFile.FieldType.boolean)) ∈ lw_all := lw_g (lw_at lw_m9 29 rfl) rfl
theorem q2093 : (Jvm.Cond.methodLink "SillBridgesModel" (351 : Nat) ({ cls := "SillBridgesModel", name := "drops", desc := "(I)Z" } : Jvm.MethodName)) ∈ lw_all := lw_g (lw_at lw_m9 30 rfl) rfl
theorem q2094 : (Jvm.Cond.privateMethod ({ cls := "SillBridgesModel", name := "drops", desc := "(I)Z" } : Jvm.MethodName)) ∈ lw_tbl := lw_at lw_m9 31 rfl
theorem q2095 : (Jvm.Cond.instanceMethod ({ cls := "SillBridgesModel", name := "drops", desc := "(I)Z" } : Jvm.MethodName)) ∈ lw_all := lw_g (lw_at lw_m9 32 rfl) rfl
theorem q2096 : (Jvm.Cond.code ({ cls := "SillBridgesModel", name := "drops", desc := "(I)Z" } : Jvm.MethodName) prog_21_method_84_code (3 : Nat) (Option.some Jvm.ClassFile.FieldType.boolean)) ∈ lw_all := lw_g (lw_at lw_m9 33 rfl) rfl
theorem q2098 : (Jvm.Cond.instanceMethod ({ cls := "SillBridgesModel", name := "least", desc := "(I)I" } : Jvm.MethodName)) ∈ lw_all := lw_g (lw_at lw_m9 35 rfl) rfl
theorem q2099 : (Jvm.Cond.selects "SillBridgesModel" ({ cls := "SillBridgesModel", name := "least", desc := "(I)I" } : Jvm.MethodName) ({ cls := "SillBridgesModel", name := "least", desc := "(I)I" } : Jvm.MethodName)) ∈ lw_all := lw_g (lw_at lw_m9 36 rfl) rfl
theorem q2100 : (Jvm.Cond.code ({ cls := "SillBridgesModel", name := "least", desc := "(I)I" } : Jvm.MethodName) prog_21_method_102_code (2 : Nat) (Option.some Jvm.ClassFile.FieldType.int)) ∈ lw_all := lw_g (lw_at lw_m9 37 rfl) rfl
theorem q2101 : (Jvm.Cond.methodLink "SillBridgesModel" (394 : Nat) ({ cls := "SillBridgesModel", name := "leastBy", desc := "(I)I" } : Jvm.MethodName)) ∈ lw_all := lw_g (lw_at lw_m9 38 rfl) rfl
theorem q2102 : (Jvm.Cond.privateMethod ({ cls := "SillBridgesModel", name := "leastBy", desc := "(I)I" } : Jvm.MethodName)) ∈ lw_tbl := lw_at lw_m9 39 rfl
theorem q2103 : (Jvm.Cond.instanceMethod ({ cls := "SillBridgesModel", name := "leastBy", desc := "(I)I" } : Jvm.MethodName)) ∈ lw_all := lw_g (lw_at lw_m9 40 rfl) rfl
theorem q2104 : (Jvm.Cond.code ({ cls := "SillBridgesModel", name := "leastBy", desc := "(I)I" } : Jvm.MethodName) prog_21_method_100_code (5 : Nat) (Option.some Jvm.ClassFile.FieldType.int)) ∈ lw_all := lw_g (lw_at lw_m9 41 rfl) rfl
theorem q2105 : (Jvm.Cond.methodLink "SillBridgesModel" (385 : Nat) ({ cls := "SillBridgesModel", name := "comes", desc := "()V" } : Jvm.MethodName)) ∈ lw_all := lw_g (lw_at lw_m9 42 rfl) rfl
theorem q2106 : (Jvm.Cond.privateMethod ({ cls := "SillBridgesModel", name := "comes", desc := "()V" } : Jvm.MethodName)) ∈ lw_tbl := lw_at lw_m9 43 rfl
theorem q2107 : (Jvm.Cond.instanceMethod ({ cls := "SillBridgesModel", name := "comes", desc := "()V" } : Jvm.MethodName)) ∈ lw_all := lw_g (lw_at lw_m9 44 rfl) rfl
theorem q2108 : (Jvm.Cond.code ({ cls := "SillBridgesModel", name := "comes", desc := "()V" } : Jvm.MethodName) prog_21_method_97_code (4 : Nat) (Option.none : Option Jvm.ClassFile.FieldType)) ∈ lw_all := lw_g (lw_at lw_m9 45 rfl) rfl
theorem q2109 : (Jvm.Cond.methodLink "SillBridgesModel" (376 : Nat) ({ cls := "SillBridgesModel", name := "starts", desc := "()V" } : Jvm.MethodName)) ∈ lw_all := lw_g (lw_at lw_m9 46 rfl) rfl
theorem q2110 : (Jvm.Cond.privateMethod ({ cls := "SillBridgesModel", name := "starts", desc := "()V" } : Jvm.MethodName)) ∈ lw_tbl := lw_at lw_m9 47 rfl
theorem q2111 : (Jvm.Cond.instanceMethod ({ cls := "SillBridgesModel", name := "starts", desc := "()V" } : Jvm.MethodName)) ∈ lw_all := lw_g (lw_at lw_m9 48 rfl) rfl
theorem q2112 : (Jvm.Cond.code ({ cls := "SillBridgesModel", name := "starts", desc := "()V" } : Jvm.MethodName) prog_21_method_96_code (2 : Nat) (Option.none : Option Jvm.ClassFile.FieldType)) ∈ lw_all := lw_g (lw_at lw_m9 49 rfl) rfl
theorem q2113 : (Jvm.Cond.methodLink "SillBridgesModel" (367 : Nat) ({ cls := "SillBridgesModel", name := "laysMoves", desc := "()V" } : Jvm.MethodName)) ∈ lw_all := lw_g (lw_at lw_m9 50 rfl) rfl
theorem q2114 : (Jvm.Cond.privateMethod ({ cls := "SillBridgesModel", name := "laysMoves", desc := "()V" } : Jvm.MethodName)) ∈ lw_tbl := lw_at lw_m9 51 rfl
theorem q2115 : (Jvm.Cond.instanceMethod ({ cls := "SillBridgesModel", name := "laysMoves", desc := "()V" } : Jvm.MethodName)) ∈ lw_all := lw_g (lw_at lw_m9 52 rfl) rfl
theorem q2116 : (Jvm.Cond.code ({ cls := "SillBridgesModel", name := "laysMoves", desc := "()V" } : Jvm.MethodName) prog_21_method_93_code (5 : Nat) (Option.none : Option Jvm.ClassFile.FieldType)) ∈ lw_all := lw_g (lw_at lw_m9 53 rfl) rfl
theorem q2117 : (Jvm.Cond.methodLink "SillBridgesModel" (357 : Nat) ({ cls := "SillBridgesModel", name := "adds", desc := "(IIII)V" } : Jvm.MethodName)) ∈ lw_all := lw_g (lw_at lw_m9 54 rfl) rfl
theorem q2118 : (Jvm.Cond.privateMethod ({ cls := "SillBridgesModel", name := "adds", desc := "(IIII)V" } : Jvm.MethodName)) ∈ lw_tbl := lw_at lw_m9 55 rfl
theorem q2119 : (Jvm.Cond.instanceMethod ({ cls := "SillBridgesModel", name := "adds", desc := "(IIII)V" } : Jvm.MethodName)) ∈ lw_all := lw_g (lw_at lw_m9 56 rfl) rfl
theorem q2120 : (Jvm.Cond.code ({ cls := "SillBridgesModel", name := "adds", desc := "(IIII)V" } : Jvm.MethodName) prog_21_method_92_code (5 : Nat) (Option.none : Option Jvm.ClassFile.FieldType)) ∈ lw_all := lw_g (lw_at lw_m9 57 rfl) rfl
theorem q2121 : (Jvm.Cond.methodLink "SillBridgesModel" (364 : Nat) ({ cls := "SillBridgesModel", name := "code", desc := "()I" } : Jvm.MethodName)) ∈ lw_all := lw_g (lw_at lw_m9 58 rfl) rfl
theorem q2122 : (Jvm.Cond.privateMethod ({ cls := "SillBridgesModel", name := "code", desc := "()I" } : Jvm.MethodName)) ∈ lw_tbl := lw_at lw_m9 59 rfl
theorem q2123 : (Jvm.Cond.instanceMethod ({ cls := "SillBridgesModel", name := "code", desc := "()I" } : Jvm.MethodName)) ∈ lw_all := lw_g (lw_at lw_m9 60 rfl) rfl
theorem q2124 : (Jvm.Cond.code ({ cls := "SillBridgesModel", name := "code", desc := "()I" } : Jvm.MethodName) prog_21_method_67_code (3 : Nat) (Option.some Jvm.ClassFile.FieldType.int)) ∈ lw_all := lw_g (lw_at lw_m9 61 rfl) rfl
theorem q2125 : (Jvm.Cond.methodLink "SillBridgesModel" (379 : Nat) ({ cls := "SillBridgesModel", name := "moved", desc := "(II)I" } : Jvm.MethodName)) ∈ lw_all := lw_g (lw_at lw_m9 62 rfl) rfl
theorem q2126 : (Jvm.Cond.privateMethod ({ cls := "SillBridgesModel", name := "moved", desc := "(II)I" } : Jvm.MethodName)) ∈ lw_tbl := lw_at lw_m9 63 rfl
theorem q2127 : (Jvm.Cond.instanceMethod ({ cls := "SillBridgesModel", name := "moved", desc := "(II)I" } : Jvm.MethodName)) ∈ lw_all := lw_g (lw_at lw_m9 64 rfl) rfl
theorem q2128 : (Jvm.Cond.code ({ cls := "SillBridgesModel", name := "moved", desc := "(II)I" } : Jvm.MethodName) prog_21_method_94_code (4 : Nat) (Option.some Jvm.ClassFile.FieldType.int)) ∈ lw_all := lw_g (lw_at lw_m9 65 rfl) rfl
theorem q2129 : (Jvm.Cond.methodLink "SillBridgesModel" (361 : Nat) ({ cls := "SillBridgesModel", name := "opens", desc := "(I)V" } : Jvm.MethodName)) ∈ lw_all := lw_g (lw_at lw_m9 66 rfl) rfl
theorem q2130 : (Jvm.Cond.privateMethod ({ cls := "SillBridgesModel", name := "opens", desc := "(I)V" } : Jvm.MethodName)) ∈ lw_tbl := lw_at lw_m9 67 rfl
theorem q2131 : (Jvm.Cond.instanceMethod ({ cls := "SillBridgesModel", name := "opens", desc := "(I)V" } : Jvm.MethodName)) ∈ lw_all := lw_g (lw_at lw_m9 68 rfl) rfl
theorem q2132 : (Jvm.Cond.code ({ cls := "SillBridgesModel", name := "opens", desc := "(I)V" } : Jvm.MethodName) prog_21_method_68_code (4 : Nat) (Option.none : Option Jvm.ClassFile.FieldType)) ∈ lw_all := lw_g (lw_at lw_m9 69 rfl) rfl
theorem q2133 : (Jvm.Cond.methodLink "SillBridgesModel" (388 : Nat) ({ cls := "SillBridgesModel", name := "lessens", desc := "(II)Z" } : Jvm.MethodName)) ∈ lw_all := lw_g (lw_at lw_m9 70 rfl) rfl
theorem q2134 : (Jvm.Cond.privateMethod ({ cls := "SillBridgesModel", name := "lessens", desc := "(II)Z" } : Jvm.MethodName)) ∈ lw_tbl := lw_at lw_m9 71 rfl
theorem q2135 : (Jvm.Cond.instanceMethod ({ cls := "SillBridgesModel", name := "lessens", desc := "(II)Z" } : Jvm.MethodName)) ∈ lw_all := lw_g (lw_at lw_m9 72 rfl) rfl
theorem q2136 : (Jvm.Cond.code ({ cls := "SillBridgesModel", name := "lessens", desc := "(II)Z" } : Jvm.MethodName) prog_21_method_101_code (7 : Nat) (Option.some Jvm.ClassFile.FieldType.boolean)) ∈ lw_all := lw_g (lw_at lw_m9 73 rfl) rfl
theorem q2137 : (Jvm.Cond.methodLink "SillBridgesModel" (391 : Nat) ({ cls := "SillBridgesModel", name := "costOf", desc := "(II)I" } : Jvm.MethodName)) ∈ lw_all := lw_g (lw_at lw_m9 74 rfl) rfl
theorem q2138 : (Jvm.Cond.privateMethod ({ cls := "SillBridgesModel", name := "costOf", desc := "(II)I" } : Jvm.MethodName)) ∈ lw_tbl := lw_at lw_m9 75 rfl
theorem q2139 : (Jvm.Cond.instanceMethod ({ cls := "SillBridgesModel", name := "costOf", desc := "(II)I" } : Jvm.MethodName)) ∈ lw_all := lw_g (lw_at lw_m9 76 rfl) rfl
theorem q2140 : (Jvm.Cond.code ({ cls := "SillBridgesModel", name := "costOf", desc := "(II)I" } : Jvm.MethodName) prog_21_method_99_code (3 : Nat) (Option.some Jvm.ClassFile.FieldType.int)) ∈ lw_all := lw_g (lw_at lw_m9 77 rfl) rfl
theorem q2141 : (Jvm.Cond.methodLink "SillBridgesModel" (382 : Nat) ({ cls := "SillBridgesModel", name := "isDoneAt", desc := "(I)Z" } : Jvm.MethodName)) ∈ lw_all := lw_g (lw_at lw_m9 78 rfl) rfl
theorem q2142 : (Jvm.Cond.privateMethod ({ cls := "SillBridgesModel", name := "isDoneAt", desc := "(I)Z" } : Jvm.MethodName)) ∈ lw_tbl := lw_at lw_m9 79 rfl
theorem q2143 : (Jvm.Cond.instanceMethod ({ cls := "SillBridgesModel", name := "isDoneAt", desc := "(I)Z" } : Jvm.MethodName)) ∈ lw_all := lw_g (lw_at lw_m9 80 rfl) rfl
theorem q2144 : (Jvm.Cond.code ({ cls := "SillBridgesModel", name := "isDoneAt", desc := "(I)Z" } : Jvm.MethodName) prog_21_method_95_code (2 : Nat) (Option.some Jvm.ClassFile.FieldType.boolean)) ∈ lw_all := lw_g (lw_at lw_m9 81 rfl) rfl
theorem q2145 : (Jvm.Cond.methodLink "SillBridgesModel" (397 : Nat) ({ cls := "SillBridgesModel", name := "fewestMoves", desc := "()I" } : Jvm.MethodName)) ∈ lw_all := lw_g (lw_at lw_m9 82 rfl) rfl
theorem q2146 : (Jvm.Cond.privateMethod ({ cls := "SillBridgesModel", name := "fewestMoves", desc := "()I" } : Jvm.MethodName)) ∈ lw_tbl := lw_at lw_m9 83 rfl
theorem q2147 : (Jvm.Cond.instanceMethod ({ cls := "SillBridgesModel", name := "fewestMoves", desc := "()I" } : Jvm.MethodName)) ∈ lw_all := lw_g (lw_at lw_m9 84 rfl) rfl
theorem q2148 : (Jvm.Cond.code ({ cls := "SillBridgesModel", name := "fewestMoves", desc := "()I" } : Jvm.MethodName) prog_21_method_98_code (2 : Nat) (Option.some Jvm.ClassFile.FieldType.int)) ∈ lw_all := lw_g (lw_at lw_m9 85 rfl) rfl
theorem q2150 : (Jvm.Cond.instanceMethod ({ cls := "SillBridgesModel", name := "first", desc := "()I" } : Jvm.MethodName)) ∈ lw_all := lw_g (lw_at lw_m9 87 rfl) rfl
theorem q2151 : (Jvm.Cond.selects "SillBridgesModel" ({ cls := "SillBridgesModel", name := "first", desc := "()I" } : Jvm.MethodName) ({ cls := "SillBridgesModel", name := "first", desc := "()I" } : Jvm.MethodName)) ∈ lw_all := lw_g (lw_at lw_m9 88 rfl) rfl
theorem q2152 : (Jvm.Cond.code ({ cls := "SillBridgesModel", name := "first", desc := "()I" } : Jvm.MethodName) prog_21_method_105_code (5 : Nat) (Option.some Jvm.ClassFile.FieldType.int)) ∈ lw_all := lw_g (lw_at lw_m9 89 rfl) rfl
theorem q2153 : (Jvm.Cond.methodLink "SillBridgesModel" (403 : Nat) ({ cls := "SillBridgesModel", name := "leaves", desc := "()V" } : Jvm.MethodName)) ∈ lw_all := lw_g (lw_at lw_m9 90 rfl) rfl
theorem q2154 : (Jvm.Cond.privateMethod ({ cls := "SillBridgesModel", name := "leaves", desc := "()V" } : Jvm.MethodName)) ∈ lw_tbl := lw_at lw_m9 91 rfl
theorem q2155 : (Jvm.Cond.instanceMethod ({ cls := "SillBridgesModel", name := "leaves", desc := "()V" } : Jvm.MethodName)) ∈ lw_all := lw_g (lw_at lw_m9 92 rfl) rfl
theorem q2156 : (Jvm.Cond.code ({ cls := "SillBridgesModel", name := "leaves", desc := "()V" } : Jvm.MethodName) prog_21_method_103_code (3 : Nat) (Option.none : Option Jvm.ClassFile.FieldType)) ∈ lw_all := lw_g (lw_at lw_m9 93 rfl) rfl
theorem q2157 : (Jvm.Cond.methodLink "SillBridgesModel" (400 : Nat) ({ cls := "SillBridgesModel", name := "leavesLess", desc := "(I)Z" } : Jvm.MethodName)) ∈ lw_all := lw_g (lw_at lw_m9 94 rfl) rfl
theorem q2158 : (Jvm.Cond.privateMethod ({ cls := "SillBridgesModel", name := "leavesLess", desc := "(I)Z" } : Jvm.MethodName)) ∈ lw_tbl := lw_at lw_m9 95 rfl
theorem q2159 : (Jvm.Cond.instanceMethod ({ cls := "SillBridgesModel", name := "leavesLess", desc := "(I)Z" } : Jvm.MethodName)) ∈ lw_all := lw_g (lw_at lw_m9 96 rfl) rfl
theorem q2160 : (Jvm.Cond.code ({ cls := "SillBridgesModel", name := "leavesLess", desc := "(I)Z" } : Jvm.MethodName) prog_21_method_104_code (5 : Nat) (Option.some Jvm.ClassFile.FieldType.boolean)) ∈ lw_all := lw_g (lw_at lw_m9 97 rfl) rfl
theorem q2162 : (Jvm.Cond.instanceMethod ({ cls := "SillBridgesModel", name := "firstAt", desc := "(II)I" } : Jvm.MethodName)) ∈ lw_all := lw_g (lw_at lw_m9 99 rfl) rfl
theorem q2163 : (Jvm.Cond.selects "SillBridgesModel" ({ cls := "SillBridgesModel", name := "firstAt", desc := "(II)I" } : Jvm.MethodName) ({ cls := "SillBridgesModel", name := "firstAt", desc := "(II)I" } : Jvm.MethodName)) ∈ lw_all := lw_g (lw_at lw_m9 100 rfl) rfl
theorem q2164 : (Jvm.Cond.code ({ cls := "SillBridgesModel", name := "firstAt", desc := "(II)I" } : Jvm.MethodName) prog_21_method_106_code (4 : Nat) (Option.some Jvm.ClassFile.FieldType.int)) ∈ lw_all := lw_g (lw_at lw_m9 101 rfl) rfl
theorem q2166 : (Jvm.Cond.instanceMethod ({ cls := "SillBridgesModel", name := "reach", desc := "(I)I" } : Jvm.MethodName)) ∈ lw_all := lw_g (lw_at lw_m9 103 rfl) rfl
theorem q2167 : (Jvm.Cond.selects "SillBridgesModel" ({ cls := "SillBridgesModel", name := "reach", desc := "(I)I" } : Jvm.MethodName) ({ cls := "SillBridgesModel", name := "reach", desc := "(I)I" } : Jvm.MethodName)) ∈ lw_all := lw_g (lw_at lw_m9 104 rfl) rfl
theorem q2168 : (Jvm.Cond.code ({ cls := "SillBridgesModel", name := "reach", desc := "(I)I" } : Jvm.MethodName) prog_21_method_107_code (4 : Nat) (Option.some Jvm.ClassFile.FieldType.int)) ∈ lw_all := lw_g (lw_at lw_m9 105 rfl) rfl
theorem q2170 : (Jvm.Cond.instanceMethod ({ cls := "SillBridgesModel", name := "fewest", desc := "(II)I" } : Jvm.MethodName)) ∈ lw_all := lw_g (lw_at lw_m9 107 rfl) rfl
theorem q2171 : (Jvm.Cond.selects "SillBridgesModel" ({ cls := "SillBridgesModel", name := "fewest", desc := "(II)I" } : Jvm.MethodName) ({ cls := "SillBridgesModel", name := "fewest", desc := "(II)I" } : Jvm.MethodName)) ∈ lw_all := lw_g (lw_at lw_m9 108 rfl) rfl
theorem q2172 : (Jvm.Cond.code ({ cls := "SillBridgesModel", name := "fewest", desc := "(II)I" } : Jvm.MethodName) prog_21_method_108_code (4 : Nat) (Option.some Jvm.ClassFile.FieldType.int)) ∈ lw_all := lw_g (lw_at lw_m9 109 rfl) rfl
theorem q2174 : (Jvm.Cond.instanceMethod ({ cls := "SillBridgesModel", name := "states", desc := "()I" } : Jvm.MethodName)) ∈ lw_all := lw_g (lw_at lw_m9 111 rfl) rfl
theorem q2175 : (Jvm.Cond.selects "SillBridgesModel" ({ cls := "SillBridgesModel", name := "states", desc := "()I" } : Jvm.MethodName) ({ cls := "SillBridgesModel", name := "states", desc := "()I" } : Jvm.MethodName)) ∈ lw_all := lw_g (lw_at lw_m9 112 rfl) rfl
theorem q2176 : (Jvm.Cond.code ({ cls := "SillBridgesModel", name := "states", desc := "()I" } : Jvm.MethodName) prog_21_method_109_code (1 : Nat) (Option.some Jvm.ClassFile.FieldType.int)) ∈ lw_all := lw_g (lw_at lw_m9 113 rfl) rfl
theorem q2178 : (Jvm.Cond.instanceMethod ({ cls := "SillBridgesModel", name := "most", desc := "(I)I" } : Jvm.MethodName)) ∈ lw_all := lw_g (lw_at lw_m9 115 rfl) rfl
theorem q2179 : (Jvm.Cond.selects "SillBridgesModel" ({ cls := "SillBridgesModel", name := "most", desc := "(I)I" } : Jvm.MethodName) ({ cls := "SillBridgesModel", name := "most", desc := "(I)I" } : Jvm.MethodName)) ∈ lw_all := lw_g (lw_at lw_m9 116 rfl) rfl
theorem q2180 : (Jvm.Cond.code ({ cls := "SillBridgesModel", name := "most", desc := "(I)I" } : Jvm.MethodName) prog_21_method_110_code (6 : Nat) (Option.some Jvm.ClassFile.FieldType.int)) ∈ lw_all := lw_g (lw_at lw_m9 117 rfl) rfl
theorem q2182 : (Jvm.Cond.instanceMethod ({ cls := "SillBridgesModel", name := "lost", desc := "()I" } : Jvm.MethodName)) ∈ lw_all := lw_g (lw_at lw_m9 119 rfl) rfl
theorem q2183 : (Jvm.Cond.selects "SillBridgesModel" ({ cls := "SillBridgesModel", name := "lost", desc := "()I" } : Jvm.MethodName) ({ cls := "SillBridgesModel", name := "lost", desc := "()I" } : Jvm.MethodName)) ∈ lw_all := lw_g (lw_at lw_m9 120 rfl) rfl
theorem q2184 : (Jvm.Cond.code ({ cls := "SillBridgesModel", name := "lost", desc := "()I" } : Jvm.MethodName) prog_21_method_112_code (3 : Nat) (Option.some Jvm.ClassFile.FieldType.int)) ∈ lw_all := lw_g (lw_at lw_m9 121 rfl) rfl
theorem q2185 : (Jvm.Cond.methodLink "SillBridgesModel" (406 : Nat) ({ cls := "SillBridgesModel", name := "keepsGood", desc := "()V" } : Jvm.MethodName)) ∈ lw_all := lw_g (lw_at lw_m9 122 rfl) rfl
theorem q2186 : (Jvm.Cond.privateMethod ({ cls := "SillBridgesModel", name := "keepsGood", desc := "()V" } : Jvm.MethodName)) ∈ lw_tbl := lw_at lw_m9 123 rfl
theorem q2187 : (Jvm.Cond.instanceMethod ({ cls := "SillBridgesModel", name := "keepsGood", desc := "()V" } : Jvm.MethodName)) ∈ lw_all := lw_g (lw_at lw_m9 124 rfl) rfl
theorem q2188 : (Jvm.Cond.code ({ cls := "SillBridgesModel", name := "keepsGood", desc := "()V" } : Jvm.MethodName) prog_21_method_111_code (6 : Nat) (Option.none : Option Jvm.ClassFile.FieldType)) ∈ lw_all := lw_g (lw_at lw_m9 125 rfl) rfl
theorem q2190 : (Jvm.Cond.instanceMethod ({ cls := "SillBridgesModel", name := "safe", desc := "()I" } : Jvm.MethodName)) ∈ lw_all := lw_g (lw_at lw_m9 127 rfl) rfl
theorem q2191 : (Jvm.Cond.selects "SillBridgesModel" ({ cls := "SillBridgesModel", name := "safe", desc := "()I" } : Jvm.MethodName) ({ cls := "SillBridgesModel", name := "safe", desc := "()I" } : Jvm.MethodName)) ∈ lw_all := lw_g (lw_at lw_m9 128 rfl) rfl
theorem q2192 : (Jvm.Cond.code ({ cls := "SillBridgesModel", name := "safe", desc := "()I" } : Jvm.MethodName) prog_21_method_113_code (4 : Nat) (Option.some Jvm.ClassFile.FieldType.int)) ∈ lw_all := lw_g (lw_at lw_m9 129 rfl) rfl
theorem q2194 : (Jvm.Cond.instanceMethod ({ cls := "SillBridgesModel", name := "free", desc := "()I" } : Jvm.MethodName)) ∈ lw_all := lw_g (lw_at lw_m9 131 rfl) rfl
theorem q2195 : (Jvm.Cond.selects "SillBridgesModel" ({ cls := "SillBridgesModel", name := "free", desc := "()I" } : Jvm.MethodName) ({ cls := "SillBridgesModel", name := "free", desc := "()I" } : Jvm.MethodName)) ∈ lw_all := lw_g (lw_at lw_m9 132 rfl) rfl
theorem q2196 : (Jvm.Cond.code ({ cls := "SillBridgesModel", name := "free", desc := "()I" } : Jvm.MethodName) prog_21_method_114_code (4 : Nat) (Option.some Jvm.ClassFile.FieldType.int)) ∈ lw_all := lw_g (lw_at lw_m9 133 rfl) rfl
theorem q2198 : (Jvm.Cond.instanceMethod ({ cls := "SillBridgesModel", name := "needed", desc := "()I" } : Jvm.MethodName)) ∈ lw_all := lw_g (lw_at lw_m9 135 rfl) rfl
theorem q2199 : (Jvm.Cond.selects "SillBridgesModel" ({ cls := "SillBridgesModel", name := "needed", desc := "()I" } : Jvm.MethodName) ({ cls := "SillBridgesModel", name := "needed", desc := "()I" } : Jvm.MethodName)) ∈ lw_all := lw_g (lw_at lw_m9 136 rfl) rfl
theorem q2200 : (Jvm.Cond.code ({ cls := "SillBridgesModel", name := "needed", desc := "()I" } : Jvm.MethodName) prog_21_method_116_code (3 : Nat) (Option.some Jvm.ClassFile.FieldType.int)) ∈ lw_all := lw_g (lw_at lw_m9 137 rfl) rfl
theorem q2201 : (Jvm.Cond.methodLink "SillBridgesModel" (409 : Nat) ({ cls := "SillBridgesModel", name := "canDo", desc := "()Z" } : Jvm.MethodName)) ∈ lw_all := lw_g (lw_at lw_m9 138 rfl) rfl
theorem q2202 : (Jvm.Cond.privateMethod ({ cls := "SillBridgesModel", name := "canDo", desc := "()Z" } : Jvm.MethodName)) ∈ lw_tbl := lw_at lw_m9 139 rfl
theorem q2203 : (Jvm.Cond.instanceMethod ({ cls := "SillBridgesModel", name := "canDo", desc := "()Z" } : Jvm.MethodName)) ∈ lw_all := lw_g (lw_at lw_m9 140 rfl) rfl
theorem q2204 : (Jvm.Cond.code ({ cls := "SillBridgesModel", name := "canDo", desc := "()Z" } : Jvm.MethodName) prog_21_method_115_code (1 : Nat) (Option.some Jvm.ClassFile.FieldType.boolean)) ∈ lw_all := lw_g (lw_at lw_m9 141 rfl) rfl
theorem q2206 : (Jvm.Cond.instanceMethod ({ cls := "SillBridgesModel", name := "stone", desc := "(I)I" } : Jvm.MethodName)) ∈ lw_all := lw_g (lw_at lw_m9 143 rfl) rfl
theorem q2207 : (Jvm.Cond.selects "SillBridgesModel" ({ cls := "SillBridgesModel", name := "stone", desc := "(I)I" } : Jvm.MethodName) ({ cls := "SillBridgesModel", name := "stone", desc := "(I)I" } : Jvm.MethodName)) ∈ lw_all := lw_g (lw_at lw_m9 144 rfl) rfl
theorem q2208 : (Jvm.Cond.code ({ cls := "SillBridgesModel", name := "stone", desc := "(I)I" } : Jvm.MethodName) prog_21_method_119_code (2 : Nat) (Option.some Jvm.ClassFile.FieldType.int)) ∈ lw_all := lw_g (lw_at lw_m9 145 rfl) rfl
theorem q2209 : (Jvm.Cond.methodLink "SillBridgesModel" (415 : Nat) ({ cls := "SillBridgesModel", name := "stoneAt", desc := "(I)I" } : Jvm.MethodName)) ∈ lw_all := lw_g (lw_at lw_m9 146 rfl) rfl
theorem q2210 : (Jvm.Cond.privateMethod ({ cls := "SillBridgesModel", name := "stoneAt", desc := "(I)I" } : Jvm.MethodName)) ∈ lw_tbl := lw_at lw_m9 147 rfl
theorem q2211 : (Jvm.Cond.instanceMethod ({ cls := "SillBridgesModel", name := "stoneAt", desc := "(I)I" } : Jvm.MethodName)) ∈ lw_all := lw_g (lw_at lw_m9 148 rfl) rfl
theorem q2212 : (Jvm.Cond.code ({ cls := "SillBridgesModel", name := "stoneAt", desc := "(I)I" } : Jvm.MethodName) prog_21_method_118_code (5 : Nat) (Option.some Jvm.ClassFile.FieldType.int)) ∈ lw_all := lw_g (lw_at lw_m9 149 rfl) rfl
theorem q2213 : (Jvm.Cond.methodLink "SillBridgesModel" (412 : Nat) ({ cls := "SillBridgesModel", name := "canWith", desc := "(II)Z" } : Jvm.MethodName)) ∈ lw_all := lw_g (lw_at lw_m9 150 rfl) rfl
theorem q2214 : (Jvm.Cond.privateMethod ({ cls := "SillBridgesModel", name := "canWith", desc := "(II)Z" } : Jvm.MethodName)) ∈ lw_tbl := lw_at lw_m9 151 rfl
theorem q2215 : (Jvm.Cond.instanceMethod ({ cls := "SillBridgesModel", name := "canWith", desc := "(II)Z" } : Jvm.MethodName)) ∈ lw_all := lw_g (lw_at lw_m9 152 rfl) rfl
theorem q2216 : (Jvm.Cond.code ({ cls := "SillBridgesModel", name := "canWith", desc := "(II)Z" } : Jvm.MethodName) prog_21_method_117_code (4 : Nat) (Option.some Jvm.ClassFile.FieldType.boolean)) ∈ lw_all := lw_g (lw_at lw_m9 153 rfl) rfl
theorem q2218 : (Jvm.Cond.instanceMethod ({ cls := "SillBridgesModel", name := "bestStone", desc := "(I)I" } : Jvm.MethodName)) ∈ lw_all := lw_g (lw_at lw_m9 155 rfl) rfl
theorem q2219 : (Jvm.Cond.selects "SillBridgesModel" ({ cls := "SillBridgesModel", name := "bestStone", desc := "(I)I" } : Jvm.MethodName) ({ cls := "SillBridgesModel", name := "bestStone", desc := "(I)I" } : Jvm.MethodName)) ∈ lw_all := lw_g (lw_at lw_m9 156 rfl) rfl
theorem q2220 : (Jvm.Cond.code ({ cls := "SillBridgesModel", name := "bestStone", desc := "(I)I" } : Jvm.MethodName) prog_21_method_120_code (6 : Nat) (Option.some Jvm.ClassFile.FieldType.int)) ∈ lw_all := lw_g (lw_at lw_m9 157 rfl) rfl
theorem q2222 : (Jvm.Cond.instanceMethod ({ cls := "SillBridgesModel", name := "rope", desc := "(III)I" } : Jvm.MethodName)) ∈ lw_all := lw_g (lw_at lw_m9 159 rfl) rfl
theorem q2223 : (Jvm.Cond.selects "SillBridgesModel" ({ cls := "SillBridgesModel", name := "rope", desc := "(III)I" } : Jvm.MethodName) ({ cls := "SillBridgesModel", name := "rope", desc := "(III)I" } : Jvm.MethodName)) ∈ lw_all := lw_g (lw_at lw_m9 160 rfl) rfl
theorem q2224 : (Jvm.Cond.code ({ cls := "SillBridgesModel", name := "rope", desc := "(III)I" } : Jvm.MethodName) prog_21_method_121_code (11 : Nat) (Option.some Jvm.ClassFile.FieldType.int)) ∈ lw_all := lw_g (lw_at lw_m9 161 rfl) rfl
theorem q2225 : (Jvm.Cond.constantLong "SillBridgesModel" (418 : Nat) (30 : Int64)) ∈ lw_all := lw_g (lw_at lw_m9 162 rfl) rfl
theorem q2226 : (Jvm.Cond.methodLink "SillBridgesModel" (420 : Nat) ({ cls := "SillBridgesModel", name := "isFrom", desc := "(JJJ)Z" } : Jvm.MethodName)) ∈ lw_all := lw_g (lw_at lw_m9 163 rfl) rfl
theorem q2227 : (Jvm.Cond.static ({ cls := "SillBridgesModel", name := "isFrom", desc := "(JJJ)Z" } : Jvm.MethodName)) ∈ lw_all := lw_g (lw_at lw_m9 164 rfl) rfl
theorem q2228 : (Jvm.Cond.code ({ cls := "SillBridgesModel", name := "isFrom", desc := "(JJJ)Z" } : Jvm.MethodName) prog_21_method_17_code (6 : Nat) (Option.some Jvm.ClassFile.FieldType.boolean)) ∈ lw_all := lw_g (lw_at lw_m9 165 rfl) rfl
theorem q2229 : (Jvm.Cond.constantLong "SillBridgesModel" (424 : Nat) (9999 : Int64)) ∈ lw_all := lw_g (lw_at lw_m9 166 rfl) rfl
theorem q2231 : (Jvm.Cond.instanceMethod ({ cls := "SillBridgesModel", name := "run", desc := "(I)I" } : Jvm.MethodName)) ∈ lw_all := lw_g (lw_at lw_m9 168 rfl) rfl
theorem q2232 : (Jvm.Cond.selects "SillBridgesModel" ({ cls := "SillBridgesModel", name := "run", desc := "(I)I" } : Jvm.MethodName) ({ cls := "SillBridgesModel", name := "run", desc := "(I)I" } : Jvm.MethodName)) ∈ lw_all := lw_g (lw_at lw_m9 169 rfl) rfl
theorem q2233 : (Jvm.Cond.code ({ cls := "SillBridgesModel", name := "run", desc := "(I)I" } : Jvm.MethodName) prog_21_method_128_code (3 : Nat) (Option.some Jvm.ClassFile.FieldType.int)) ∈ lw_all := lw_g (lw_at lw_m9 170 rfl) rfl
theorem q2234 : (Jvm.Cond.methodLink "SillBridgesModel" (467 : Nat) ({ cls := "SillBridgesModel", name := "runs", desc := "(I)V" } : Jvm.MethodName)) ∈ lw_all := lw_g (lw_at lw_m9 171 rfl) rfl
theorem q2235 : (Jvm.Cond.privateMethod ({ cls := "SillBridgesModel", name := "runs", desc := "(I)V" } : Jvm.MethodName)) ∈ lw_tbl := lw_at lw_m9 172 rfl
theorem q2236 : (Jvm.Cond.instanceMethod ({ cls := "SillBridgesModel", name := "runs", desc := "(I)V" } : Jvm.MethodName)) ∈ lw_all := lw_g (lw_at lw_m9 173 rfl) rfl
theorem q2237 : (Jvm.Cond.code ({ cls := "SillBridgesModel", name := "runs", desc := "(I)V" } : Jvm.MethodName) prog_21_method_127_code (6 : Nat) (Option.none : Option Jvm.ClassFile.FieldType)) ∈ lw_all := lw_g (lw_at lw_m9 174 rfl) rfl
theorem q2238 : (Jvm.Cond.methodLink "SillBridgesModel" (458 : Nat) ({ cls := "SillBridgesModel", name := "ordersMove", desc := "(I)Z" } : Jvm.MethodName)) ∈ lw_all := lw_g (lw_at lw_m9 175 rfl) rfl
theorem q2239 : (Jvm.Cond.privateMethod ({ cls := "SillBridgesModel", name := "ordersMove", desc := "(I)Z" } : Jvm.MethodName)) ∈ lw_tbl := lw_at lw_m9 176 rfl
theorem q2240 : (Jvm.Cond.instanceMethod ({ cls := "SillBridgesModel", name := "ordersMove", desc := "(I)Z" } : Jvm.MethodName)) ∈ lw_all := lw_g (lw_at lw_m9 177 rfl) rfl
theorem q2241 : (Jvm.Cond.code ({ cls := "SillBridgesModel", name := "ordersMove", desc := "(I)Z" } : Jvm.MethodName) prog_21_method_124_code (5 : Nat) (Option.some Jvm.ClassFile.FieldType.boolean)) ∈ lw_all := lw_g (lw_at lw_m9 178 rfl) rfl
theorem q2242 : (Jvm.Cond.methodLink "SillBridgesModel" (449 : Nat) ({ cls := "SillBridgesModel", name := "ordersOver", desc := "(III)Z" } : Jvm.MethodName)) ∈ lw_all := lw_g (lw_at lw_m9 179 rfl) rfl
theorem q2243 : (Jvm.Cond.privateMethod ({ cls := "SillBridgesModel", name := "ordersOver", desc := "(III)Z" } : Jvm.MethodName)) ∈ lw_tbl := lw_at lw_m9 180 rfl
theorem q2244 : (Jvm.Cond.instanceMethod ({ cls := "SillBridgesModel", name := "ordersOver", desc := "(III)Z" } : Jvm.MethodName)) ∈ lw_all := lw_g (lw_at lw_m9 181 rfl) rfl
theorem q2245 : (Jvm.Cond.code ({ cls := "SillBridgesModel", name := "ordersOver", desc := "(III)Z" } : Jvm.MethodName) prog_21_method_123_code (5 : Nat) (Option.some Jvm.ClassFile.FieldType.boolean)) ∈ lw_all := lw_g (lw_at lw_m9 182 rfl) rfl
theorem q2246 : (Jvm.Cond.methodLink "SillBridgesModel" (440 : Nat) ({ cls := "SillBridgesModel", name := "slips", desc := "(I)Z" } : Jvm.MethodName)) ∈ lw_all := lw_g (lw_at lw_m9 183 rfl) rfl
theorem q2247 : (Jvm.Cond.privateMethod ({ cls := "SillBridgesModel", name := "slips", desc := "(I)Z" } : Jvm.MethodName)) ∈ lw_tbl := lw_at lw_m9 184 rfl
theorem q2248 : (Jvm.Cond.instanceMethod ({ cls := "SillBridgesModel", name := "slips", desc := "(I)Z" } : Jvm.MethodName)) ∈ lw_all := lw_g (lw_at lw_m9 185 rfl) rfl
theorem q2249 : (Jvm.Cond.code ({ cls := "SillBridgesModel", name := "slips", desc := "(I)Z" } : Jvm.MethodName) prog_21_method_122_code (2 : Nat) (Option.some Jvm.ClassFile.FieldType.boolean)) ∈ lw_all := lw_g (lw_at lw_m9 186 rfl) rfl
theorem q2250 : (Jvm.Cond.constant "SillBridgesModel" (433 : Nat) (65536 : Int32)) ∈ lw_all := lw_g (lw_at lw_m9 187 rfl) rfl
theorem q2251 : (Jvm.Cond.methodLink "SillBridgesModel" (461 : Nat) ({ cls := "SillBridgesModel", name := "holdsNow", desc := "(I)Z" } : Jvm.MethodName)) ∈ lw_all := lw_g (lw_at lw_m9 188 rfl) rfl
theorem q2252 : (Jvm.Cond.privateMethod ({ cls := "SillBridgesModel", name := "holdsNow", desc := "(I)Z" } : Jvm.MethodName)) ∈ lw_tbl := lw_at lw_m9 189 rfl
theorem q2253 : (Jvm.Cond.instanceMethod ({ cls := "SillBridgesModel", name := "holdsNow", desc := "(I)Z" } : Jvm.MethodName)) ∈ lw_all := lw_g (lw_at lw_m9 190 rfl) rfl
theorem q2254 : (Jvm.Cond.code ({ cls := "SillBridgesModel", name := "holdsNow", desc := "(I)Z" } : Jvm.MethodName) prog_21_method_125_code (4 : Nat) (Option.some Jvm.ClassFile.FieldType.boolean)) ∈ lw_all := lw_g (lw_at lw_m9 191 rfl) rfl
theorem q2255 : (Jvm.Cond.methodLink "SillBridgesModel" (464 : Nat) ({ cls := "SillBridgesModel", name := "behindEnds", desc := "(I)I" } : Jvm.MethodName)) ∈ lw_all := lw_g (lw_at lw_m9 192 rfl) rfl
theorem q2256 : (Jvm.Cond.privateMethod ({ cls := "SillBridgesModel", name := "behindEnds", desc := "(I)I" } : Jvm.MethodName)) ∈ lw_tbl := lw_at lw_m9 193 rfl
theorem q2257 : (Jvm.Cond.instanceMethod ({ cls := "SillBridgesModel", name := "behindEnds", desc := "(I)I" } : Jvm.MethodName)) ∈ lw_all := lw_g (lw_at lw_m9 194 rfl) rfl
theorem q2258 : (Jvm.Cond.code ({ cls := "SillBridgesModel", name := "behindEnds", desc := "(I)I" } : Jvm.MethodName) prog_21_method_126_code (5 : Nat) (Option.some Jvm.ClassFile.FieldType.int)) ∈ lw_all := lw_g (lw_at lw_m9 195 rfl) rfl
theorem q2260 : (Jvm.Cond.instanceMethod ({ cls := "SillBridgesModel", name := "ran", desc := "(I)I" } : Jvm.MethodName)) ∈ lw_all := lw_g (lw_at lw_m9 197 rfl) rfl
theorem q2261 : (Jvm.Cond.selects "SillBridgesModel" ({ cls := "SillBridgesModel", name := "ran", desc := "(I)I" } : Jvm.MethodName) ({ cls := "SillBridgesModel", name := "ran", desc := "(I)I" } : Jvm.MethodName)) ∈ lw_all := lw_g (lw_at lw_m9 198 rfl) rfl
theorem q2262 : (Jvm.Cond.code ({ cls := "SillBridgesModel", name := "ran", desc := "(I)I" } : Jvm.MethodName) prog_21_method_129_code (2 : Nat) (Option.some Jvm.ClassFile.FieldType.int)) ∈ lw_all := lw_g (lw_at lw_m9 199 rfl) rfl
theorem q2264 : (Jvm.Cond.instanceMethod ({ cls := "SillBridgesModel", name := "ranAt", desc := "(I)I" } : Jvm.MethodName)) ∈ lw_all := lw_g (lw_at lw_m9 201 rfl) rfl
theorem q2265 : (Jvm.Cond.selects "SillBridgesModel" ({ cls := "SillBridgesModel", name := "ranAt", desc := "(I)I" } : Jvm.MethodName) ({ cls := "SillBridgesModel", name := "ranAt", desc := "(I)I" } : Jvm.MethodName)) ∈ lw_all := lw_g (lw_at lw_m9 202 rfl) rfl
theorem q2266 : (Jvm.Cond.code ({ cls := "SillBridgesModel", name := "ranAt", desc := "(I)I" } : Jvm.MethodName) prog_21_method_130_code (2 : Nat) (Option.some Jvm.ClassFile.FieldType.int)) ∈ lw_all := lw_g (lw_at lw_m9 203 rfl) rfl
theorem q2268 : (Jvm.Cond.instanceMethod ({ cls := "SillBridgesModel", name := "odds", desc := "(II)Z" } : Jvm.MethodName)) ∈ lw_all := lw_g (lw_at lw_m9 205 rfl) rfl
theorem q2269 : (Jvm.Cond.selects "SillBridgesModel" ({ cls := "SillBridgesModel", name := "odds", desc := "(II)Z" } : Jvm.MethodName) ({ cls := "SillBridgesModel", name := "odds", desc := "(II)Z" } : Jvm.MethodName)) ∈ lw_all := lw_g (lw_at lw_m9 206 rfl) rfl
theorem q2270 : (Jvm.Cond.code ({ cls := "SillBridgesModel", name := "odds", desc := "(II)Z" } : Jvm.MethodName) prog_21_method_131_code (5 : Nat) (Option.some Jvm.ClassFile.FieldType.boolean)) ∈ lw_all := lw_g (lw_at lw_m9 207 rfl) rfl
theorem q2271 : (Jvm.Cond.methodLink "SillBridgesModel" (470 : Nat) ({ cls := "SillBridgesModel", name := "tellsBy", desc := "(JJ)Z" } : Jvm.MethodName)) ∈ lw_all := lw_g (lw_at lw_m9 208 rfl) rfl
theorem q2272 : (Jvm.Cond.privateMethod ({ cls := "SillBridgesModel", name := "tellsBy", desc := "(JJ)Z" } : Jvm.MethodName)) ∈ lw_tbl := lw_at lw_m9 209 rfl
theorem q2273 : (Jvm.Cond.instanceMethod ({ cls := "SillBridgesModel", name := "tellsBy", desc := "(JJ)Z" } : Jvm.MethodName)) ∈ lw_all := lw_g (lw_at lw_m9 210 rfl) rfl
theorem q2274 : (Jvm.Cond.code ({ cls := "SillBridgesModel", name := "tellsBy", desc := "(JJ)Z" } : Jvm.MethodName) prog_21_method_9_code (11 : Nat) (Option.some Jvm.ClassFile.FieldType.boolean)) ∈ lw_all := lw_g (lw_at lw_m9 211 rfl) rfl
theorem q2276 : (Jvm.Cond.instanceMethod ({ cls := "SillBridgesModel", name := "mark", desc := "()I" } : Jvm.MethodName)) ∈ lw_all := lw_g (lw_at lw_m9 213 rfl) rfl
theorem q2277 : (Jvm.Cond.selects "SillBridgesModel" ({ cls := "SillBridgesModel", name := "mark", desc := "()I" } : Jvm.MethodName) ({ cls := "SillBridgesModel", name := "mark", desc := "()I" } : Jvm.MethodName)) ∈ lw_all := lw_g (lw_at lw_m9 214 rfl) rfl
theorem q2278 : (Jvm.Cond.code ({ cls := "SillBridgesModel", name := "mark", desc := "()I" } : Jvm.MethodName) prog_21_method_133_code (1 : Nat) (Option.some Jvm.ClassFile.FieldType.int)) ∈ lw_all := lw_g (lw_at lw_m9 215 rfl) rfl
theorem q2279 : (Jvm.Cond.methodLink "SillBridgesModel" (477 : Nat) ({ cls := "SillBridgesModel", name := "copies", desc := "(II)V" } : Jvm.MethodName)) ∈ lw_all := lw_g (lw_at lw_m9 216 rfl) rfl
theorem q2280 : (Jvm.Cond.privateMethod ({ cls := "SillBridgesModel", name := "copies", desc := "(II)V" } : Jvm.MethodName)) ∈ lw_tbl := lw_at lw_m9 217 rfl
theorem q2281 : (Jvm.Cond.instanceMethod ({ cls := "SillBridgesModel", name := "copies", desc := "(II)V" } : Jvm.MethodName)) ∈ lw_all := lw_g (lw_at lw_m9 218 rfl) rfl
theorem q2282 : (Jvm.Cond.code ({ cls := "SillBridgesModel", name := "copies", desc := "(II)V" } : Jvm.MethodName) prog_21_method_132_code (4 : Nat) (Option.none : Option Jvm.ClassFile.FieldType)) ∈ lw_all := lw_g (lw_at lw_m9 219 rfl) rfl
theorem q2284 : (Jvm.Cond.instanceMethod ({ cls := "SillBridgesModel", name := "back", desc := "()I" } : Jvm.MethodName)) ∈ lw_all := lw_g (lw_at lw_m9 221 rfl) rfl
theorem q2285 : (Jvm.Cond.selects "SillBridgesModel" ({ cls := "SillBridgesModel", name := "back", desc := "()I" } : Jvm.MethodName) ({ cls := "SillBridgesModel", name := "back", desc := "()I" } : Jvm.MethodName)) ∈ lw_all := lw_g (lw_at lw_m9 222 rfl) rfl
theorem q2286 : (Jvm.Cond.code ({ cls := "SillBridgesModel", name := "back", desc := "()I" } : Jvm.MethodName) prog_21_method_134_code (1 : Nat) (Option.some Jvm.ClassFile.FieldType.int)) ∈ lw_all := lw_g (lw_at lw_m9 223 rfl) rfl
theorem in_X9 : ∀ w ∈ wsX90, w ∈ lw_all := lw_in wsX90 [1642, 1644, 1646, 1648, 1650, 1652, 1654, 1656, 1658, 1660, 1662, 1664, 1666, 1668, 1670, 1672, 1674, 1676, 1678, 1680, 1682, 1684, 1686, 1688, 1690, 1692, 1694, 1696, 1698, 1700, 1702, 1704, 1706, 1708, 1710, 1712, 1714, 1716, 1718, 1720, 1722, 1724, 1726, 1728, 1730, 1732, 1734, 1736, 1738, 1740, 1742, 1744, 1746, 1748] (by decide +kernel) (by decide +kernel)
