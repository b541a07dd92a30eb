set_option maxRecDepth 100000
def dkwX2_choices_1 : List UInt8 := [65, 132, 4, 1, 167, 255, 233, 32, 173]
abbrev dktX2_choices_1 : List UInt8 := dkwX2_choices_1 ++ []
def dkwX2_choices_0 : List UInt8 := [10, 65, 4, 54, 4, 21, 4, 27, 163, 0, 23, 32, 26, 27, 100, 21, 4, 96, 133, 105, 21, 4, 133, 109]
abbrev dktX2_choices_0 : List UInt8 := dkwX2_choices_0 ++ dktX2_choices_1
theorem dksX2_choices_0 : cX2_choices.data.toList.drop 0 = dktX2_choices_0 := by decide +kernel
theorem dksX2_choices_1 : cX2_choices.data.toList.drop 24 = dktX2_choices_1 := dk_seg dksX2_choices_0 24 rfl rfl
theorem dX2_choices_0 : decode cX2_choices 0 = .ok (.lconst 1, 1) := dk_10 (dk_at dksX2_choices_0 0 rfl rfl)
theorem dX2_choices_1 : decode cX2_choices 1 = .ok (.lstore_n 2, 1) := dk_65 (dk_at dksX2_choices_0 1 rfl rfl)
theorem dX2_choices_2 : decode cX2_choices 2 = .ok (.iconst 1, 1) := dk_4 (dk_at dksX2_choices_0 2 rfl rfl)
theorem dX2_choices_3 : decode cX2_choices 3 = .ok (.istore 4, 2) := dk_54 4 (dk_at dksX2_choices_0 3 rfl rfl)
theorem dX2_choices_5 : decode cX2_choices 5 = .ok (.iload 4, 2) := dk_21 4 (dk_at dksX2_choices_0 5 rfl rfl)
theorem dX2_choices_7 : decode cX2_choices 7 = .ok (.iload_n 1, 1) := dk_27 (dk_at dksX2_choices_0 7 rfl rfl)
theorem dX2_choices_8 : decode cX2_choices 8 = .ok (.if_icmp .gt 23, 3) := dk_163 0 23 (dk_at dksX2_choices_0 8 rfl rfl)
theorem dX2_choices_11 : decode cX2_choices 11 = .ok (.lload_n 2, 1) := dk_32 (dk_at dksX2_choices_0 11 rfl rfl)
theorem dX2_choices_12 : decode cX2_choices 12 = .ok (.iload_n 0, 1) := dk_26 (dk_at dksX2_choices_0 12 rfl rfl)
theorem dX2_choices_13 : decode cX2_choices 13 = .ok (.iload_n 1, 1) := dk_27 (dk_at dksX2_choices_0 13 rfl rfl)
theorem dX2_choices_14 : decode cX2_choices 14 = .ok (.isub, 1) := dk_100 (dk_at dksX2_choices_0 14 rfl rfl)
theorem dX2_choices_15 : decode cX2_choices 15 = .ok (.iload 4, 2) := dk_21 4 (dk_at dksX2_choices_0 15 rfl rfl)
theorem dX2_choices_17 : decode cX2_choices 17 = .ok (.iadd, 1) := dk_96 (dk_at dksX2_choices_0 17 rfl rfl)
theorem dX2_choices_18 : decode cX2_choices 18 = .ok (.i2l, 1) := dk_133 (dk_at dksX2_choices_0 18 rfl rfl)
theorem dX2_choices_19 : decode cX2_choices 19 = .ok (.lmul, 1) := dk_105 (dk_at dksX2_choices_0 19 rfl rfl)
theorem dX2_choices_20 : decode cX2_choices 20 = .ok (.iload 4, 2) := dk_21 4 (dk_at dksX2_choices_0 20 rfl rfl)
theorem dX2_choices_22 : decode cX2_choices 22 = .ok (.i2l, 1) := dk_133 (dk_at dksX2_choices_0 22 rfl rfl)
theorem dX2_choices_23 : decode cX2_choices 23 = .ok (.ldiv, 1) := dk_109 (dk_at dksX2_choices_0 23 rfl rfl)
theorem dX2_choices_24 : decode cX2_choices 24 = .ok (.lstore_n 2, 1) := dk_65 (dk_at dksX2_choices_1 0 rfl rfl)
theorem dX2_choices_25 : decode cX2_choices 25 = .ok (.iinc 4 1, 3) := dk_132 4 1 (dk_at dksX2_choices_1 1 rfl rfl)
theorem dX2_choices_28 : decode cX2_choices 28 = .ok (.goto (-23), 3) := dk_167 255 233 (dk_at dksX2_choices_1 4 rfl rfl)
theorem dX2_choices_31 : decode cX2_choices 31 = .ok (.lload_n 2, 1) := dk_32 (dk_at dksX2_choices_1 7 rfl rfl)
theorem dX2_choices_32 : decode cX2_choices 32 = .ok (.lreturn, 1) := dk_173 (dk_at dksX2_choices_1 8 rfl rfl)
def dkwX2_power_0 : List UInt8 := [10, 65, 3, 54, 4, 21, 4, 27, 162, 0, 14, 32, 26, 133, 105, 65, 132, 4, 1, 167, 255, 242, 32, 173]
abbrev dktX2_power_0 : List UInt8 := dkwX2_power_0 ++ []
theorem dksX2_power_0 : cX2_power.data.toList.drop 0 = dktX2_power_0 := by decide +kernel
theorem dX2_power_0 : decode cX2_power 0 = .ok (.lconst 1, 1) := dk_10 (dk_at dksX2_power_0 0 rfl rfl)
theorem dX2_power_1 : decode cX2_power 1 = .ok (.lstore_n 2, 1) := dk_65 (dk_at dksX2_power_0 1 rfl rfl)
theorem dX2_power_2 : decode cX2_power 2 = .ok (.iconst 0, 1) := dk_3 (dk_at dksX2_power_0 2 rfl rfl)
theorem dX2_power_3 : decode cX2_power 3 = .ok (.istore 4, 2) := dk_54 4 (dk_at dksX2_power_0 3 rfl rfl)
theorem dX2_power_5 : decode cX2_power 5 = .ok (.iload 4, 2) := dk_21 4 (dk_at dksX2_power_0 5 rfl rfl)
theorem dX2_power_7 : decode cX2_power 7 = .ok (.iload_n 1, 1) := dk_27 (dk_at dksX2_power_0 7 rfl rfl)
theorem dX2_power_8 : decode cX2_power 8 = .ok (.if_icmp .ge 14, 3) := dk_162 0 14 (dk_at dksX2_power_0 8 rfl rfl)
theorem dX2_power_11 : decode cX2_power 11 = .ok (.lload_n 2, 1) := dk_32 (dk_at dksX2_power_0 11 rfl rfl)
theorem dX2_power_12 : decode cX2_power 12 = .ok (.iload_n 0, 1) := dk_26 (dk_at dksX2_power_0 12 rfl rfl)
theorem dX2_power_13 : decode cX2_power 13 = .ok (.i2l, 1) := dk_133 (dk_at dksX2_power_0 13 rfl rfl)
theorem dX2_power_14 : decode cX2_power 14 = .ok (.lmul, 1) := dk_105 (dk_at dksX2_power_0 14 rfl rfl)
theorem dX2_power_15 : decode cX2_power 15 = .ok (.lstore_n 2, 1) := dk_65 (dk_at dksX2_power_0 15 rfl rfl)
theorem dX2_power_16 : decode cX2_power 16 = .ok (.iinc 4 1, 3) := dk_132 4 1 (dk_at dksX2_power_0 16 rfl rfl)
theorem dX2_power_19 : decode cX2_power 19 = .ok (.goto (-14), 3) := dk_167 255 242 (dk_at dksX2_power_0 19 rfl rfl)
theorem dX2_power_22 : decode cX2_power 22 = .ok (.lload_n 2, 1) := dk_32 (dk_at dksX2_power_0 22 rfl rfl)
theorem dX2_power_23 : decode cX2_power 23 = .ok (.lreturn, 1) := dk_173 (dk_at dksX2_power_0 23 rfl rfl)
def dkwX2_common_1 : List UInt8 := [22, 8, 55, 6, 167, 255, 234, 22, 4, 173]
abbrev dktX2_common_1 : List UInt8 := dkwX2_common_1 ++ []
def dkwX2_common_0 : List UInt8 := [30, 55, 4, 32, 55, 6, 22, 6, 9, 148, 153, 0, 21, 22, 4, 22, 6, 113, 55, 8, 22, 6, 55, 4]
abbrev dktX2_common_0 : List UInt8 := dkwX2_common_0 ++ dktX2_common_1
theorem dksX2_common_0 : cX2_common.data.toList.drop 0 = dktX2_common_0 := by decide +kernel
theorem dksX2_common_1 : cX2_common.data.toList.drop 24 = dktX2_common_1 := dk_seg dksX2_common_0 24 rfl rfl
theorem dX2_common_0 : decode cX2_common 0 = .ok (.lload_n 0, 1) := dk_30 (dk_at dksX2_common_0 0 rfl rfl)
theorem dX2_common_1 : decode cX2_common 1 = .ok (.lstore 4, 2) := dk_55 4 (dk_at dksX2_common_0 1 rfl rfl)
theorem dX2_common_3 : decode cX2_common 3 = .ok (.lload_n 2, 1) := dk_32 (dk_at dksX2_common_0 3 rfl rfl)
theorem dX2_common_4 : decode cX2_common 4 = .ok (.lstore 6, 2) := dk_55 6 (dk_at dksX2_common_0 4 rfl rfl)
theorem dX2_common_6 : decode cX2_common 6 = .ok (.lload 6, 2) := dk_22 6 (dk_at dksX2_common_0 6 rfl rfl)
theorem dX2_common_8 : decode cX2_common 8 = .ok (.lconst 0, 1) := dk_9 (dk_at dksX2_common_0 8 rfl rfl)
theorem dX2_common_9 : decode cX2_common 9 = .ok (.lcmp, 1) := dk_148 (dk_at dksX2_common_0 9 rfl rfl)
theorem dX2_common_10 : decode cX2_common 10 = .ok (.ifCond .eq 21, 3) := dk_153 0 21 (dk_at dksX2_common_0 10 rfl rfl)
theorem dX2_common_13 : decode cX2_common 13 = .ok (.lload 4, 2) := dk_22 4 (dk_at dksX2_common_0 13 rfl rfl)
theorem dX2_common_15 : decode cX2_common 15 = .ok (.lload 6, 2) := dk_22 6 (dk_at dksX2_common_0 15 rfl rfl)
theorem dX2_common_17 : decode cX2_common 17 = .ok (.lrem, 1) := dk_113 (dk_at dksX2_common_0 17 rfl rfl)
theorem dX2_common_18 : decode cX2_common 18 = .ok (.lstore 8, 2) := dk_55 8 (dk_at dksX2_common_0 18 rfl rfl)
theorem dX2_common_20 : decode cX2_common 20 = .ok (.lload 6, 2) := dk_22 6 (dk_at dksX2_common_0 20 rfl rfl)
theorem dX2_common_22 : decode cX2_common 22 = .ok (.lstore 4, 2) := dk_55 4 (dk_at dksX2_common_0 22 rfl rfl)
theorem dX2_common_24 : decode cX2_common 24 = .ok (.lload 8, 2) := dk_22 8 (dk_at dksX2_common_1 0 rfl rfl)
theorem dX2_common_26 : decode cX2_common 26 = .ok (.lstore 6, 2) := dk_55 6 (dk_at dksX2_common_1 2 rfl rfl)
theorem dX2_common_28 : decode cX2_common 28 = .ok (.goto (-22), 3) := dk_167 255 234 (dk_at dksX2_common_1 4 rfl rfl)
theorem dX2_common_31 : decode cX2_common 31 = .ok (.lload 4, 2) := dk_22 4 (dk_at dksX2_common_1 7 rfl rfl)
theorem dX2_common_33 : decode cX2_common 33 = .ok (.lreturn, 1) := dk_173 (dk_at dksX2_common_1 9 rfl rfl)
def dkwX2_round_7 : List UInt8 := [167, 0, 9, 42, 180, 0, 68, 28, 46, 172]
abbrev dktX2_round_7 : List UInt8 := dkwX2_round_7 ++ []
def dkwX2_round_6 : List UInt8 := [79, 132, 7, 1, 167, 255, 233, 42, 29, 182, 1, 118, 54, 5, 167, 255, 192, 28, 2, 160, 0, 8, 21, 4]
abbrev dktX2_round_6 : List UInt8 := dkwX2_round_6 ++ dktX2_round_7
def dkwX2_round_5 : List UInt8 := [54, 4, 3, 54, 7, 21, 7, 29, 162, 0, 23, 42, 180, 0, 68, 21, 7, 42, 180, 0, 65, 21, 7, 46]
abbrev dktX2_round_5 : List UInt8 := dkwX2_round_5 ++ dktX2_round_6
def dkwX2_round_4 : List UInt8 := [153, 0, 65, 42, 29, 182, 1, 115, 54, 6, 21, 4, 155, 0, 10, 21, 6, 21, 4, 162, 0, 36, 21, 6]
abbrev dktX2_round_4 : List UInt8 := dkwX2_round_4 ++ dktX2_round_5
def dkwX2_round_3 : List UInt8 := [180, 0, 65, 29, 21, 4, 79, 132, 3, 1, 132, 4, 1, 167, 255, 219, 2, 54, 4, 4, 54, 5, 21, 5]
abbrev dktX2_round_3 : List UInt8 := dkwX2_round_3 ++ dktX2_round_4
def dkwX2_round_2 : List UInt8 := [21, 4, 42, 180, 0, 7, 3, 46, 162, 0, 32, 27, 21, 4, 122, 4, 126, 154, 0, 6, 167, 0, 14, 42]
abbrev dktX2_round_2 : List UInt8 := dkwX2_round_2 ++ dktX2_round_3
def dkwX2_round_1 : List UInt8 := [163, 0, 16, 28, 2, 161, 0, 11, 28, 27, 184, 1, 47, 161, 0, 5, 2, 172, 3, 62, 3, 54, 4]
abbrev dktX2_round_1 : List UInt8 := dkwX2_round_1 ++ dktX2_round_2
def dkwX2_round_0 : List UInt8 := [27, 4, 4, 42, 180, 0, 7, 3, 46, 120, 4, 100, 184, 0, 75, 153, 0, 25, 27, 184, 1, 47, 16, 8]
abbrev dktX2_round_0 : List UInt8 := dkwX2_round_0 ++ dktX2_round_1
theorem dksX2_round_0 : cX2_round.data.toList.drop 0 = dktX2_round_0 := by decide +kernel
theorem dksX2_round_1 : cX2_round.data.toList.drop 24 = dktX2_round_1 := dk_seg dksX2_round_0 24 rfl rfl
theorem dksX2_round_2 : cX2_round.data.toList.drop 47 = dktX2_round_2 := dk_seg dksX2_round_1 23 rfl rfl
theorem dksX2_round_3 : cX2_round.data.toList.drop 71 = dktX2_round_3 := dk_seg dksX2_round_2 24 rfl rfl
theorem dksX2_round_4 : cX2_round.data.toList.drop 95 = dktX2_round_4 := dk_seg dksX2_round_3 24 rfl rfl
theorem dksX2_round_5 : cX2_round.data.toList.drop 119 = dktX2_round_5 := dk_seg dksX2_round_4 24 rfl rfl
theorem dksX2_round_6 : cX2_round.data.toList.drop 143 = dktX2_round_6 := dk_seg dksX2_round_5 24 rfl rfl
theorem dksX2_round_7 : cX2_round.data.toList.drop 167 = dktX2_round_7 := dk_seg dksX2_round_6 24 rfl rfl
theorem dX2_round_0 : decode cX2_round 0 = .ok (.iload_n 1, 1) := dk_27 (dk_at dksX2_round_0 0 rfl rfl)
theorem dX2_round_1 : decode cX2_round 1 = .ok (.iconst 1, 1) := dk_4 (dk_at dksX2_round_0 1 rfl rfl)
theorem dX2_round_2 : decode cX2_round 2 = .ok (.iconst 1, 1) := dk_4 (dk_at dksX2_round_0 2 rfl rfl)
theorem dX2_round_3 : decode cX2_round 3 = .ok (.aload_n 0, 1) := dk_42 (dk_at dksX2_round_0 3 rfl rfl)
theorem dX2_round_4 : decode cX2_round 4 = .ok (.getfield 7, 3) := dk_180 0 7 (dk_at dksX2_round_0 4 rfl rfl)
theorem dX2_round_7 : decode cX2_round 7 = .ok (.iconst 0, 1) := dk_3 (dk_at dksX2_round_0 7 rfl rfl)
theorem dX2_round_8 : decode cX2_round 8 = .ok (.iaload, 1) := dk_46 (dk_at dksX2_round_0 8 rfl rfl)
theorem dX2_round_9 : decode cX2_round 9 = .ok (.ishl, 1) := dk_120 (dk_at dksX2_round_0 9 rfl rfl)
theorem dX2_round_10 : decode cX2_round 10 = .ok (.iconst 1, 1) := dk_4 (dk_at dksX2_round_0 10 rfl rfl)
theorem dX2_round_11 : decode cX2_round 11 = .ok (.isub, 1) := dk_100 (dk_at dksX2_round_0 11 rfl rfl)
theorem dX2_round_12 : decode cX2_round 12 = .ok (.invokestatic 75, 3) := dk_184 0 75 (dk_at dksX2_round_0 12 rfl rfl)
theorem dX2_round_15 : decode cX2_round 15 = .ok (.ifCond .eq 25, 3) := dk_153 0 25 (dk_at dksX2_round_0 15 rfl rfl)
theorem dX2_round_18 : decode cX2_round 18 = .ok (.iload_n 1, 1) := dk_27 (dk_at dksX2_round_0 18 rfl rfl)
theorem dX2_round_19 : decode cX2_round 19 = .ok (.invokestatic 303, 3) := dk_184 1 47 (dk_at dksX2_round_0 19 rfl rfl)
theorem dX2_round_22 : decode cX2_round 22 = .ok (.bipush 8, 2) := dk_16 8 (dk_at dksX2_round_0 22 rfl rfl)
theorem dX2_round_24 : decode cX2_round 24 = .ok (.if_icmp .gt 16, 3) := dk_163 0 16 (dk_at dksX2_round_1 0 rfl rfl)
theorem dX2_round_27 : decode cX2_round 27 = .ok (.iload_n 2, 1) := dk_28 (dk_at dksX2_round_1 3 rfl rfl)
theorem dX2_round_28 : decode cX2_round 28 = .ok (.iconst (-1), 1) := dk_2 (dk_at dksX2_round_1 4 rfl rfl)
theorem dX2_round_29 : decode cX2_round 29 = .ok (.if_icmp .lt 11, 3) := dk_161 0 11 (dk_at dksX2_round_1 5 rfl rfl)
theorem dX2_round_32 : decode cX2_round 32 = .ok (.iload_n 2, 1) := dk_28 (dk_at dksX2_round_1 8 rfl rfl)
theorem dX2_round_33 : decode cX2_round 33 = .ok (.iload_n 1, 1) := dk_27 (dk_at dksX2_round_1 9 rfl rfl)
theorem dX2_round_34 : decode cX2_round 34 = .ok (.invokestatic 303, 3) := dk_184 1 47 (dk_at dksX2_round_1 10 rfl rfl)
theorem dX2_round_37 : decode cX2_round 37 = .ok (.if_icmp .lt 5, 3) := dk_161 0 5 (dk_at dksX2_round_1 13 rfl rfl)
theorem dX2_round_40 : decode cX2_round 40 = .ok (.iconst (-1), 1) := dk_2 (dk_at dksX2_round_1 16 rfl rfl)
theorem dX2_round_41 : decode cX2_round 41 = .ok (.ireturn, 1) := dk_172 (dk_at dksX2_round_1 17 rfl rfl)
theorem dX2_round_42 : decode cX2_round 42 = .ok (.iconst 0, 1) := dk_3 (dk_at dksX2_round_1 18 rfl rfl)
theorem dX2_round_43 : decode cX2_round 43 = .ok (.istore_n 3, 1) := dk_62 (dk_at dksX2_round_1 19 rfl rfl)
theorem dX2_round_44 : decode cX2_round 44 = .ok (.iconst 0, 1) := dk_3 (dk_at dksX2_round_1 20 rfl rfl)
theorem dX2_round_45 : decode cX2_round 45 = .ok (.istore 4, 2) := dk_54 4 (dk_at dksX2_round_1 21 rfl rfl)
theorem dX2_round_47 : decode cX2_round 47 = .ok (.iload 4, 2) := dk_21 4 (dk_at dksX2_round_2 0 rfl rfl)
theorem dX2_round_49 : decode cX2_round 49 = .ok (.aload_n 0, 1) := dk_42 (dk_at dksX2_round_2 2 rfl rfl)
theorem dX2_round_50 : decode cX2_round 50 = .ok (.getfield 7, 3) := dk_180 0 7 (dk_at dksX2_round_2 3 rfl rfl)
theorem dX2_round_53 : decode cX2_round 53 = .ok (.iconst 0, 1) := dk_3 (dk_at dksX2_round_2 6 rfl rfl)
theorem dX2_round_54 : decode cX2_round 54 = .ok (.iaload, 1) := dk_46 (dk_at dksX2_round_2 7 rfl rfl)
theorem dX2_round_55 : decode cX2_round 55 = .ok (.if_icmp .ge 32, 3) := dk_162 0 32 (dk_at dksX2_round_2 8 rfl rfl)
theorem dX2_round_58 : decode cX2_round 58 = .ok (.iload_n 1, 1) := dk_27 (dk_at dksX2_round_2 11 rfl rfl)
theorem dX2_round_59 : decode cX2_round 59 = .ok (.iload 4, 2) := dk_21 4 (dk_at dksX2_round_2 12 rfl rfl)
theorem dX2_round_61 : decode cX2_round 61 = .ok (.ishr, 1) := dk_122 (dk_at dksX2_round_2 14 rfl rfl)
theorem dX2_round_62 : decode cX2_round 62 = .ok (.iconst 1, 1) := dk_4 (dk_at dksX2_round_2 15 rfl rfl)
theorem dX2_round_63 : decode cX2_round 63 = .ok (.iand, 1) := dk_126 (dk_at dksX2_round_2 16 rfl rfl)
theorem dX2_round_64 : decode cX2_round 64 = .ok (.ifCond .ne 6, 3) := dk_154 0 6 (dk_at dksX2_round_2 17 rfl rfl)
theorem dX2_round_67 : decode cX2_round 67 = .ok (.goto 14, 3) := dk_167 0 14 (dk_at dksX2_round_2 20 rfl rfl)
theorem dX2_round_70 : decode cX2_round 70 = .ok (.aload_n 0, 1) := dk_42 (dk_at dksX2_round_2 23 rfl rfl)
theorem dX2_round_71 : decode cX2_round 71 = .ok (.getfield 65, 3) := dk_180 0 65 (dk_at dksX2_round_3 0 rfl rfl)
theorem dX2_round_74 : decode cX2_round 74 = .ok (.iload_n 3, 1) := dk_29 (dk_at dksX2_round_3 3 rfl rfl)
theorem dX2_round_75 : decode cX2_round 75 = .ok (.iload 4, 2) := dk_21 4 (dk_at dksX2_round_3 4 rfl rfl)
theorem dX2_round_77 : decode cX2_round 77 = .ok (.iastore, 1) := dk_79 (dk_at dksX2_round_3 6 rfl rfl)
theorem dX2_round_78 : decode cX2_round 78 = .ok (.iinc 3 1, 3) := dk_132 3 1 (dk_at dksX2_round_3 7 rfl rfl)
theorem dX2_round_81 : decode cX2_round 81 = .ok (.iinc 4 1, 3) := dk_132 4 1 (dk_at dksX2_round_3 10 rfl rfl)
theorem dX2_round_84 : decode cX2_round 84 = .ok (.goto (-37), 3) := dk_167 255 219 (dk_at dksX2_round_3 13 rfl rfl)
theorem dX2_round_87 : decode cX2_round 87 = .ok (.iconst (-1), 1) := dk_2 (dk_at dksX2_round_3 16 rfl rfl)
theorem dX2_round_88 : decode cX2_round 88 = .ok (.istore 4, 2) := dk_54 4 (dk_at dksX2_round_3 17 rfl rfl)
theorem dX2_round_90 : decode cX2_round 90 = .ok (.iconst 1, 1) := dk_4 (dk_at dksX2_round_3 19 rfl rfl)
theorem dX2_round_91 : decode cX2_round 91 = .ok (.istore 5, 2) := dk_54 5 (dk_at dksX2_round_3 20 rfl rfl)
theorem dX2_round_93 : decode cX2_round 93 = .ok (.iload 5, 2) := dk_21 5 (dk_at dksX2_round_3 22 rfl rfl)
theorem dX2_round_95 : decode cX2_round 95 = .ok (.ifCond .eq 65, 3) := dk_153 0 65 (dk_at dksX2_round_4 0 rfl rfl)
theorem dX2_round_98 : decode cX2_round 98 = .ok (.aload_n 0, 1) := dk_42 (dk_at dksX2_round_4 3 rfl rfl)
theorem dX2_round_99 : decode cX2_round 99 = .ok (.iload_n 3, 1) := dk_29 (dk_at dksX2_round_4 4 rfl rfl)
theorem dX2_round_100 : decode cX2_round 100 = .ok (.invokevirtual 371, 3) := dk_182 1 115 (dk_at dksX2_round_4 5 rfl rfl)
theorem dX2_round_103 : decode cX2_round 103 = .ok (.istore 6, 2) := dk_54 6 (dk_at dksX2_round_4 8 rfl rfl)
theorem dX2_round_105 : decode cX2_round 105 = .ok (.iload 4, 2) := dk_21 4 (dk_at dksX2_round_4 10 rfl rfl)
theorem dX2_round_107 : decode cX2_round 107 = .ok (.ifCond .lt 10, 3) := dk_155 0 10 (dk_at dksX2_round_4 12 rfl rfl)
theorem dX2_round_110 : decode cX2_round 110 = .ok (.iload 6, 2) := dk_21 6 (dk_at dksX2_round_4 15 rfl rfl)
theorem dX2_round_112 : decode cX2_round 112 = .ok (.iload 4, 2) := dk_21 4 (dk_at dksX2_round_4 17 rfl rfl)
theorem dX2_round_114 : decode cX2_round 114 = .ok (.if_icmp .ge 36, 3) := dk_162 0 36 (dk_at dksX2_round_4 19 rfl rfl)
theorem dX2_round_117 : decode cX2_round 117 = .ok (.iload 6, 2) := dk_21 6 (dk_at dksX2_round_4 22 rfl rfl)
theorem dX2_round_119 : decode cX2_round 119 = .ok (.istore 4, 2) := dk_54 4 (dk_at dksX2_round_5 0 rfl rfl)
theorem dX2_round_121 : decode cX2_round 121 = .ok (.iconst 0, 1) := dk_3 (dk_at dksX2_round_5 2 rfl rfl)
theorem dX2_round_122 : decode cX2_round 122 = .ok (.istore 7, 2) := dk_54 7 (dk_at dksX2_round_5 3 rfl rfl)
theorem dX2_round_124 : decode cX2_round 124 = .ok (.iload 7, 2) := dk_21 7 (dk_at dksX2_round_5 5 rfl rfl)
theorem dX2_round_126 : decode cX2_round 126 = .ok (.iload_n 3, 1) := dk_29 (dk_at dksX2_round_5 7 rfl rfl)
theorem dX2_round_127 : decode cX2_round 127 = .ok (.if_icmp .ge 23, 3) := dk_162 0 23 (dk_at dksX2_round_5 8 rfl rfl)
theorem dX2_round_130 : decode cX2_round 130 = .ok (.aload_n 0, 1) := dk_42 (dk_at dksX2_round_5 11 rfl rfl)
theorem dX2_round_131 : decode cX2_round 131 = .ok (.getfield 68, 3) := dk_180 0 68 (dk_at dksX2_round_5 12 rfl rfl)
theorem dX2_round_134 : decode cX2_round 134 = .ok (.iload 7, 2) := dk_21 7 (dk_at dksX2_round_5 15 rfl rfl)
theorem dX2_round_136 : decode cX2_round 136 = .ok (.aload_n 0, 1) := dk_42 (dk_at dksX2_round_5 17 rfl rfl)
theorem dX2_round_137 : decode cX2_round 137 = .ok (.getfield 65, 3) := dk_180 0 65 (dk_at dksX2_round_5 18 rfl rfl)
theorem dX2_round_140 : decode cX2_round 140 = .ok (.iload 7, 2) := dk_21 7 (dk_at dksX2_round_5 21 rfl rfl)
theorem dX2_round_142 : decode cX2_round 142 = .ok (.iaload, 1) := dk_46 (dk_at dksX2_round_5 23 rfl rfl)
theorem dX2_round_143 : decode cX2_round 143 = .ok (.iastore, 1) := dk_79 (dk_at dksX2_round_6 0 rfl rfl)
theorem dX2_round_144 : decode cX2_round 144 = .ok (.iinc 7 1, 3) := dk_132 7 1 (dk_at dksX2_round_6 1 rfl rfl)
theorem dX2_round_147 : decode cX2_round 147 = .ok (.goto (-23), 3) := dk_167 255 233 (dk_at dksX2_round_6 4 rfl rfl)
theorem dX2_round_150 : decode cX2_round 150 = .ok (.aload_n 0, 1) := dk_42 (dk_at dksX2_round_6 7 rfl rfl)
theorem dX2_round_151 : decode cX2_round 151 = .ok (.iload_n 3, 1) := dk_29 (dk_at dksX2_round_6 8 rfl rfl)
theorem dX2_round_152 : decode cX2_round 152 = .ok (.invokevirtual 374, 3) := dk_182 1 118 (dk_at dksX2_round_6 9 rfl rfl)
theorem dX2_round_155 : decode cX2_round 155 = .ok (.istore 5, 2) := dk_54 5 (dk_at dksX2_round_6 12 rfl rfl)
theorem dX2_round_157 : decode cX2_round 157 = .ok (.goto (-64), 3) := dk_167 255 192 (dk_at dksX2_round_6 14 rfl rfl)
theorem dX2_round_160 : decode cX2_round 160 = .ok (.iload_n 2, 1) := dk_28 (dk_at dksX2_round_6 17 rfl rfl)
theorem dX2_round_161 : decode cX2_round 161 = .ok (.iconst (-1), 1) := dk_2 (dk_at dksX2_round_6 18 rfl rfl)
theorem dX2_round_162 : decode cX2_round 162 = .ok (.if_icmp .ne 8, 3) := dk_160 0 8 (dk_at dksX2_round_6 19 rfl rfl)
theorem dX2_round_165 : decode cX2_round 165 = .ok (.iload 4, 2) := dk_21 4 (dk_at dksX2_round_6 22 rfl rfl)
theorem dX2_round_167 : decode cX2_round 167 = .ok (.goto 9, 3) := dk_167 0 9 (dk_at dksX2_round_7 0 rfl rfl)
theorem dX2_round_170 : decode cX2_round 170 = .ok (.aload_n 0, 1) := dk_42 (dk_at dksX2_round_7 3 rfl rfl)
theorem dX2_round_171 : decode cX2_round 171 = .ok (.getfield 68, 3) := dk_180 0 68 (dk_at dksX2_round_7 4 rfl rfl)
theorem dX2_round_174 : decode cX2_round 174 = .ok (.iload_n 2, 1) := dk_28 (dk_at dksX2_round_7 7 rfl rfl)
theorem dX2_round_175 : decode cX2_round 175 = .ok (.iaload, 1) := dk_46 (dk_at dksX2_round_7 8 rfl rfl)
theorem dX2_round_176 : decode cX2_round 176 = .ok (.ireturn, 1) := dk_172 (dk_at dksX2_round_7 9 rfl rfl)
def dkwX2_milesOf_2 : List UInt8 := [172]
abbrev dktX2_milesOf_2 : List UInt8 := dkwX2_milesOf_2 ++ []
def dkwX2_milesOf_1 : List UInt8 := [27, 160, 0, 7, 3, 167, 0, 6, 29, 4, 96, 46, 182, 1, 77, 96, 61, 132, 3, 1, 167, 255, 216, 28]
abbrev dktX2_milesOf_1 : List UInt8 := dkwX2_milesOf_1 ++ dktX2_milesOf_2
def dkwX2_milesOf_0 : List UInt8 := [3, 61, 3, 62, 29, 27, 162, 0, 41, 28, 42, 42, 180, 0, 65, 29, 46, 42, 180, 0, 65, 29, 4, 96]
abbrev dktX2_milesOf_0 : List UInt8 := dkwX2_milesOf_0 ++ dktX2_milesOf_1
theorem dksX2_milesOf_0 : cX2_milesOf.data.toList.drop 0 = dktX2_milesOf_0 := by decide +kernel
theorem dksX2_milesOf_1 : cX2_milesOf.data.toList.drop 24 = dktX2_milesOf_1 := dk_seg dksX2_milesOf_0 24 rfl rfl
theorem dksX2_milesOf_2 : cX2_milesOf.data.toList.drop 48 = dktX2_milesOf_2 := dk_seg dksX2_milesOf_1 24 rfl rfl
theorem dX2_milesOf_0 : decode cX2_milesOf 0 = .ok (.iconst 0, 1) := dk_3 (dk_at dksX2_milesOf_0 0 rfl rfl)
theorem dX2_milesOf_1 : decode cX2_milesOf 1 = .ok (.istore_n 2, 1) := dk_61 (dk_at dksX2_milesOf_0 1 rfl rfl)
theorem dX2_milesOf_2 : decode cX2_milesOf 2 = .ok (.iconst 0, 1) := dk_3 (dk_at dksX2_milesOf_0 2 rfl rfl)
theorem dX2_milesOf_3 : decode cX2_milesOf 3 = .ok (.istore_n 3, 1) := dk_62 (dk_at dksX2_milesOf_0 3 rfl rfl)
theorem dX2_milesOf_4 : decode cX2_milesOf 4 = .ok (.iload_n 3, 1) := dk_29 (dk_at dksX2_milesOf_0 4 rfl rfl)
theorem dX2_milesOf_5 : decode cX2_milesOf 5 = .ok (.iload_n 1, 1) := dk_27 (dk_at dksX2_milesOf_0 5 rfl rfl)
theorem dX2_milesOf_6 : decode cX2_milesOf 6 = .ok (.if_icmp .ge 41, 3) := dk_162 0 41 (dk_at dksX2_milesOf_0 6 rfl rfl)
theorem dX2_milesOf_9 : decode cX2_milesOf 9 = .ok (.iload_n 2, 1) := dk_28 (dk_at dksX2_milesOf_0 9 rfl rfl)
theorem dX2_milesOf_10 : decode cX2_milesOf 10 = .ok (.aload_n 0, 1) := dk_42 (dk_at dksX2_milesOf_0 10 rfl rfl)
theorem dX2_milesOf_11 : decode cX2_milesOf 11 = .ok (.aload_n 0, 1) := dk_42 (dk_at dksX2_milesOf_0 11 rfl rfl)
theorem dX2_milesOf_12 : decode cX2_milesOf 12 = .ok (.getfield 65, 3) := dk_180 0 65 (dk_at dksX2_milesOf_0 12 rfl rfl)
theorem dX2_milesOf_15 : decode cX2_milesOf 15 = .ok (.iload_n 3, 1) := dk_29 (dk_at dksX2_milesOf_0 15 rfl rfl)
theorem dX2_milesOf_16 : decode cX2_milesOf 16 = .ok (.iaload, 1) := dk_46 (dk_at dksX2_milesOf_0 16 rfl rfl)
theorem dX2_milesOf_17 : decode cX2_milesOf 17 = .ok (.aload_n 0, 1) := dk_42 (dk_at dksX2_milesOf_0 17 rfl rfl)
theorem dX2_milesOf_18 : decode cX2_milesOf 18 = .ok (.getfield 65, 3) := dk_180 0 65 (dk_at dksX2_milesOf_0 18 rfl rfl)
theorem dX2_milesOf_21 : decode cX2_milesOf 21 = .ok (.iload_n 3, 1) := dk_29 (dk_at dksX2_milesOf_0 21 rfl rfl)
theorem dX2_milesOf_22 : decode cX2_milesOf 22 = .ok (.iconst 1, 1) := dk_4 (dk_at dksX2_milesOf_0 22 rfl rfl)
theorem dX2_milesOf_23 : decode cX2_milesOf 23 = .ok (.iadd, 1) := dk_96 (dk_at dksX2_milesOf_0 23 rfl rfl)
theorem dX2_milesOf_24 : decode cX2_milesOf 24 = .ok (.iload_n 1, 1) := dk_27 (dk_at dksX2_milesOf_1 0 rfl rfl)
theorem dX2_milesOf_25 : decode cX2_milesOf 25 = .ok (.if_icmp .ne 7, 3) := dk_160 0 7 (dk_at dksX2_milesOf_1 1 rfl rfl)
theorem dX2_milesOf_28 : decode cX2_milesOf 28 = .ok (.iconst 0, 1) := dk_3 (dk_at dksX2_milesOf_1 4 rfl rfl)
theorem dX2_milesOf_29 : decode cX2_milesOf 29 = .ok (.goto 6, 3) := dk_167 0 6 (dk_at dksX2_milesOf_1 5 rfl rfl)
theorem dX2_milesOf_32 : decode cX2_milesOf 32 = .ok (.iload_n 3, 1) := dk_29 (dk_at dksX2_milesOf_1 8 rfl rfl)
theorem dX2_milesOf_33 : decode cX2_milesOf 33 = .ok (.iconst 1, 1) := dk_4 (dk_at dksX2_milesOf_1 9 rfl rfl)
theorem dX2_milesOf_34 : decode cX2_milesOf 34 = .ok (.iadd, 1) := dk_96 (dk_at dksX2_milesOf_1 10 rfl rfl)
theorem dX2_milesOf_35 : decode cX2_milesOf 35 = .ok (.iaload, 1) := dk_46 (dk_at dksX2_milesOf_1 11 rfl rfl)
theorem dX2_milesOf_36 : decode cX2_milesOf 36 = .ok (.invokevirtual 333, 3) := dk_182 1 77 (dk_at dksX2_milesOf_1 12 rfl rfl)
theorem dX2_milesOf_39 : decode cX2_milesOf 39 = .ok (.iadd, 1) := dk_96 (dk_at dksX2_milesOf_1 15 rfl rfl)
theorem dX2_milesOf_40 : decode cX2_milesOf 40 = .ok (.istore_n 2, 1) := dk_61 (dk_at dksX2_milesOf_1 16 rfl rfl)
theorem dX2_milesOf_41 : decode cX2_milesOf 41 = .ok (.iinc 3 1, 3) := dk_132 3 1 (dk_at dksX2_milesOf_1 17 rfl rfl)
theorem dX2_milesOf_44 : decode cX2_milesOf 44 = .ok (.goto (-40), 3) := dk_167 255 216 (dk_at dksX2_milesOf_1 20 rfl rfl)
theorem dX2_milesOf_47 : decode cX2_milesOf 47 = .ok (.iload_n 2, 1) := dk_28 (dk_at dksX2_milesOf_1 23 rfl rfl)
theorem dX2_milesOf_48 : decode cX2_milesOf 48 = .ok (.ireturn, 1) := dk_172 (dk_at dksX2_milesOf_2 0 rfl rfl)
def dkwX2_nextOrder_4 : List UInt8 := [132, 4, 1, 132, 5, 255, 167, 255, 235, 4, 172]
abbrev dktX2_nextOrder_4 : List UInt8 := dkwX2_nextOrder_4 ++ []
def dkwX2_nextOrder_3 : List UInt8 := [4, 96, 54, 4, 27, 4, 100, 54, 5, 21, 4, 21, 5, 162, 0, 20, 42, 21, 4, 21, 5, 182, 1, 112]
abbrev dktX2_nextOrder_3 : List UInt8 := dkwX2_nextOrder_3 ++ dktX2_nextOrder_4
def dkwX2_nextOrder_2 : List UInt8 := [29, 46, 42, 180, 0, 65, 28, 46, 162, 0, 9, 132, 3, 255, 167, 255, 238, 42, 28, 29, 182, 1, 112, 28]
abbrev dktX2_nextOrder_2 : List UInt8 := dkwX2_nextOrder_2 ++ dktX2_nextOrder_3
def dkwX2_nextOrder_1 : List UInt8 := [164, 0, 9, 132, 2, 255, 167, 255, 231, 28, 4, 162, 0, 5, 3, 172, 27, 4, 100, 62, 42, 180, 0, 65]
abbrev dktX2_nextOrder_1 : List UInt8 := dkwX2_nextOrder_1 ++ dktX2_nextOrder_2
def dkwX2_nextOrder_0 : List UInt8 := [27, 5, 100, 61, 28, 4, 161, 0, 26, 42, 180, 0, 65, 28, 46, 42, 180, 0, 65, 28, 4, 96, 46]
abbrev dktX2_nextOrder_0 : List UInt8 := dkwX2_nextOrder_0 ++ dktX2_nextOrder_1
theorem dksX2_nextOrder_0 : cX2_nextOrder.data.toList.drop 0 = dktX2_nextOrder_0 := by decide +kernel
theorem dksX2_nextOrder_1 : cX2_nextOrder.data.toList.drop 23 = dktX2_nextOrder_1 := dk_seg dksX2_nextOrder_0 23 rfl rfl
theorem dksX2_nextOrder_2 : cX2_nextOrder.data.toList.drop 47 = dktX2_nextOrder_2 := dk_seg dksX2_nextOrder_1 24 rfl rfl
theorem dksX2_nextOrder_3 : cX2_nextOrder.data.toList.drop 71 = dktX2_nextOrder_3 := dk_seg dksX2_nextOrder_2 24 rfl rfl
theorem dksX2_nextOrder_4 : cX2_nextOrder.data.toList.drop 95 = dktX2_nextOrder_4 := dk_seg dksX2_nextOrder_3 24 rfl rfl
theorem dX2_nextOrder_0 : decode cX2_nextOrder 0 = .ok (.iload_n 1, 1) := dk_27 (dk_at dksX2_nextOrder_0 0 rfl rfl)
theorem dX2_nextOrder_1 : decode cX2_nextOrder 1 = .ok (.iconst 2, 1) := dk_5 (dk_at dksX2_nextOrder_0 1 rfl rfl)
theorem dX2_nextOrder_2 : decode cX2_nextOrder 2 = .ok (.isub, 1) := dk_100 (dk_at dksX2_nextOrder_0 2 rfl rfl)
theorem dX2_nextOrder_3 : decode cX2_nextOrder 3 = .ok (.istore_n 2, 1) := dk_61 (dk_at dksX2_nextOrder_0 3 rfl rfl)
theorem dX2_nextOrder_4 : decode cX2_nextOrder 4 = .ok (.iload_n 2, 1) := dk_28 (dk_at dksX2_nextOrder_0 4 rfl rfl)
theorem dX2_nextOrder_5 : decode cX2_nextOrder 5 = .ok (.iconst 1, 1) := dk_4 (dk_at dksX2_nextOrder_0 5 rfl rfl)
theorem dX2_nextOrder_6 : decode cX2_nextOrder 6 = .ok (.if_icmp .lt 26, 3) := dk_161 0 26 (dk_at dksX2_nextOrder_0 6 rfl rfl)
theorem dX2_nextOrder_9 : decode cX2_nextOrder 9 = .ok (.aload_n 0, 1) := dk_42 (dk_at dksX2_nextOrder_0 9 rfl rfl)
theorem dX2_nextOrder_10 : decode cX2_nextOrder 10 = .ok (.getfield 65, 3) := dk_180 0 65 (dk_at dksX2_nextOrder_0 10 rfl rfl)
theorem dX2_nextOrder_13 : decode cX2_nextOrder 13 = .ok (.iload_n 2, 1) := dk_28 (dk_at dksX2_nextOrder_0 13 rfl rfl)
theorem dX2_nextOrder_14 : decode cX2_nextOrder 14 = .ok (.iaload, 1) := dk_46 (dk_at dksX2_nextOrder_0 14 rfl rfl)
theorem dX2_nextOrder_15 : decode cX2_nextOrder 15 = .ok (.aload_n 0, 1) := dk_42 (dk_at dksX2_nextOrder_0 15 rfl rfl)
theorem dX2_nextOrder_16 : decode cX2_nextOrder 16 = .ok (.getfield 65, 3) := dk_180 0 65 (dk_at dksX2_nextOrder_0 16 rfl rfl)
theorem dX2_nextOrder_19 : decode cX2_nextOrder 19 = .ok (.iload_n 2, 1) := dk_28 (dk_at dksX2_nextOrder_0 19 rfl rfl)
theorem dX2_nextOrder_20 : decode cX2_nextOrder 20 = .ok (.iconst 1, 1) := dk_4 (dk_at dksX2_nextOrder_0 20 rfl rfl)
theorem dX2_nextOrder_21 : decode cX2_nextOrder 21 = .ok (.iadd, 1) := dk_96 (dk_at dksX2_nextOrder_0 21 rfl rfl)
theorem dX2_nextOrder_22 : decode cX2_nextOrder 22 = .ok (.iaload, 1) := dk_46 (dk_at dksX2_nextOrder_0 22 rfl rfl)
theorem dX2_nextOrder_23 : decode cX2_nextOrder 23 = .ok (.if_icmp .le 9, 3) := dk_164 0 9 (dk_at dksX2_nextOrder_1 0 rfl rfl)
theorem dX2_nextOrder_26 : decode cX2_nextOrder 26 = .ok (.iinc 2 (-1), 3) := dk_132 2 255 (dk_at dksX2_nextOrder_1 3 rfl rfl)
theorem dX2_nextOrder_29 : decode cX2_nextOrder 29 = .ok (.goto (-25), 3) := dk_167 255 231 (dk_at dksX2_nextOrder_1 6 rfl rfl)
theorem dX2_nextOrder_32 : decode cX2_nextOrder 32 = .ok (.iload_n 2, 1) := dk_28 (dk_at dksX2_nextOrder_1 9 rfl rfl)
theorem dX2_nextOrder_33 : decode cX2_nextOrder 33 = .ok (.iconst 1, 1) := dk_4 (dk_at dksX2_nextOrder_1 10 rfl rfl)
theorem dX2_nextOrder_34 : decode cX2_nextOrder 34 = .ok (.if_icmp .ge 5, 3) := dk_162 0 5 (dk_at dksX2_nextOrder_1 11 rfl rfl)
theorem dX2_nextOrder_37 : decode cX2_nextOrder 37 = .ok (.iconst 0, 1) := dk_3 (dk_at dksX2_nextOrder_1 14 rfl rfl)
theorem dX2_nextOrder_38 : decode cX2_nextOrder 38 = .ok (.ireturn, 1) := dk_172 (dk_at dksX2_nextOrder_1 15 rfl rfl)
theorem dX2_nextOrder_39 : decode cX2_nextOrder 39 = .ok (.iload_n 1, 1) := dk_27 (dk_at dksX2_nextOrder_1 16 rfl rfl)
theorem dX2_nextOrder_40 : decode cX2_nextOrder 40 = .ok (.iconst 1, 1) := dk_4 (dk_at dksX2_nextOrder_1 17 rfl rfl)
theorem dX2_nextOrder_41 : decode cX2_nextOrder 41 = .ok (.isub, 1) := dk_100 (dk_at dksX2_nextOrder_1 18 rfl rfl)
theorem dX2_nextOrder_42 : decode cX2_nextOrder 42 = .ok (.istore_n 3, 1) := dk_62 (dk_at dksX2_nextOrder_1 19 rfl rfl)
theorem dX2_nextOrder_43 : decode cX2_nextOrder 43 = .ok (.aload_n 0, 1) := dk_42 (dk_at dksX2_nextOrder_1 20 rfl rfl)
theorem dX2_nextOrder_44 : decode cX2_nextOrder 44 = .ok (.getfield 65, 3) := dk_180 0 65 (dk_at dksX2_nextOrder_1 21 rfl rfl)
theorem dX2_nextOrder_47 : decode cX2_nextOrder 47 = .ok (.iload_n 3, 1) := dk_29 (dk_at dksX2_nextOrder_2 0 rfl rfl)
theorem dX2_nextOrder_48 : decode cX2_nextOrder 48 = .ok (.iaload, 1) := dk_46 (dk_at dksX2_nextOrder_2 1 rfl rfl)
theorem dX2_nextOrder_49 : decode cX2_nextOrder 49 = .ok (.aload_n 0, 1) := dk_42 (dk_at dksX2_nextOrder_2 2 rfl rfl)
theorem dX2_nextOrder_50 : decode cX2_nextOrder 50 = .ok (.getfield 65, 3) := dk_180 0 65 (dk_at dksX2_nextOrder_2 3 rfl rfl)
theorem dX2_nextOrder_53 : decode cX2_nextOrder 53 = .ok (.iload_n 2, 1) := dk_28 (dk_at dksX2_nextOrder_2 6 rfl rfl)
theorem dX2_nextOrder_54 : decode cX2_nextOrder 54 = .ok (.iaload, 1) := dk_46 (dk_at dksX2_nextOrder_2 7 rfl rfl)
theorem dX2_nextOrder_55 : decode cX2_nextOrder 55 = .ok (.if_icmp .ge 9, 3) := dk_162 0 9 (dk_at dksX2_nextOrder_2 8 rfl rfl)
theorem dX2_nextOrder_58 : decode cX2_nextOrder 58 = .ok (.iinc 3 (-1), 3) := dk_132 3 255 (dk_at dksX2_nextOrder_2 11 rfl rfl)
theorem dX2_nextOrder_61 : decode cX2_nextOrder 61 = .ok (.goto (-18), 3) := dk_167 255 238 (dk_at dksX2_nextOrder_2 14 rfl rfl)
theorem dX2_nextOrder_64 : decode cX2_nextOrder 64 = .ok (.aload_n 0, 1) := dk_42 (dk_at dksX2_nextOrder_2 17 rfl rfl)
theorem dX2_nextOrder_65 : decode cX2_nextOrder 65 = .ok (.iload_n 2, 1) := dk_28 (dk_at dksX2_nextOrder_2 18 rfl rfl)
theorem dX2_nextOrder_66 : decode cX2_nextOrder 66 = .ok (.iload_n 3, 1) := dk_29 (dk_at dksX2_nextOrder_2 19 rfl rfl)
theorem dX2_nextOrder_67 : decode cX2_nextOrder 67 = .ok (.invokevirtual 368, 3) := dk_182 1 112 (dk_at dksX2_nextOrder_2 20 rfl rfl)
theorem dX2_nextOrder_70 : decode cX2_nextOrder 70 = .ok (.iload_n 2, 1) := dk_28 (dk_at dksX2_nextOrder_2 23 rfl rfl)
theorem dX2_nextOrder_71 : decode cX2_nextOrder 71 = .ok (.iconst 1, 1) := dk_4 (dk_at dksX2_nextOrder_3 0 rfl rfl)
theorem dX2_nextOrder_72 : decode cX2_nextOrder 72 = .ok (.iadd, 1) := dk_96 (dk_at dksX2_nextOrder_3 1 rfl rfl)
theorem dX2_nextOrder_73 : decode cX2_nextOrder 73 = .ok (.istore 4, 2) := dk_54 4 (dk_at dksX2_nextOrder_3 2 rfl rfl)
theorem dX2_nextOrder_75 : decode cX2_nextOrder 75 = .ok (.iload_n 1, 1) := dk_27 (dk_at dksX2_nextOrder_3 4 rfl rfl)
theorem dX2_nextOrder_76 : decode cX2_nextOrder 76 = .ok (.iconst 1, 1) := dk_4 (dk_at dksX2_nextOrder_3 5 rfl rfl)
theorem dX2_nextOrder_77 : decode cX2_nextOrder 77 = .ok (.isub, 1) := dk_100 (dk_at dksX2_nextOrder_3 6 rfl rfl)
theorem dX2_nextOrder_78 : decode cX2_nextOrder 78 = .ok (.istore 5, 2) := dk_54 5 (dk_at dksX2_nextOrder_3 7 rfl rfl)
theorem dX2_nextOrder_80 : decode cX2_nextOrder 80 = .ok (.iload 4, 2) := dk_21 4 (dk_at dksX2_nextOrder_3 9 rfl rfl)
theorem dX2_nextOrder_82 : decode cX2_nextOrder 82 = .ok (.iload 5, 2) := dk_21 5 (dk_at dksX2_nextOrder_3 11 rfl rfl)
theorem dX2_nextOrder_84 : decode cX2_nextOrder 84 = .ok (.if_icmp .ge 20, 3) := dk_162 0 20 (dk_at dksX2_nextOrder_3 13 rfl rfl)
theorem dX2_nextOrder_87 : decode cX2_nextOrder 87 = .ok (.aload_n 0, 1) := dk_42 (dk_at dksX2_nextOrder_3 16 rfl rfl)
theorem dX2_nextOrder_88 : decode cX2_nextOrder 88 = .ok (.iload 4, 2) := dk_21 4 (dk_at dksX2_nextOrder_3 17 rfl rfl)
theorem dX2_nextOrder_90 : decode cX2_nextOrder 90 = .ok (.iload 5, 2) := dk_21 5 (dk_at dksX2_nextOrder_3 19 rfl rfl)
theorem dX2_nextOrder_92 : decode cX2_nextOrder 92 = .ok (.invokevirtual 368, 3) := dk_182 1 112 (dk_at dksX2_nextOrder_3 21 rfl rfl)
theorem dX2_nextOrder_95 : decode cX2_nextOrder 95 = .ok (.iinc 4 1, 3) := dk_132 4 1 (dk_at dksX2_nextOrder_4 0 rfl rfl)
theorem dX2_nextOrder_98 : decode cX2_nextOrder 98 = .ok (.iinc 5 (-1), 3) := dk_132 5 255 (dk_at dksX2_nextOrder_4 3 rfl rfl)
theorem dX2_nextOrder_101 : decode cX2_nextOrder 101 = .ok (.goto (-21), 3) := dk_167 255 235 (dk_at dksX2_nextOrder_4 6 rfl rfl)
theorem dX2_nextOrder_104 : decode cX2_nextOrder 104 = .ok (.iconst 1, 1) := dk_4 (dk_at dksX2_nextOrder_4 9 rfl rfl)
theorem dX2_nextOrder_105 : decode cX2_nextOrder 105 = .ok (.ireturn, 1) := dk_172 (dk_at dksX2_nextOrder_4 10 rfl rfl)
def dkwX2_exchange_1 : List UInt8 := [29, 79, 177]
abbrev dktX2_exchange_1 : List UInt8 := dkwX2_exchange_1 ++ []
def dkwX2_exchange_0 : List UInt8 := [42, 180, 0, 65, 27, 46, 62, 42, 180, 0, 65, 27, 42, 180, 0, 65, 28, 46, 79, 42, 180, 0, 65, 28]
abbrev dktX2_exchange_0 : List UInt8 := dkwX2_exchange_0 ++ dktX2_exchange_1
theorem dksX2_exchange_0 : cX2_exchange.data.toList.drop 0 = dktX2_exchange_0 := by decide +kernel
theorem dksX2_exchange_1 : cX2_exchange.data.toList.drop 24 = dktX2_exchange_1 := dk_seg dksX2_exchange_0 24 rfl rfl
theorem dX2_exchange_0 : decode cX2_exchange 0 = .ok (.aload_n 0, 1) := dk_42 (dk_at dksX2_exchange_0 0 rfl rfl)
theorem dX2_exchange_1 : decode cX2_exchange 1 = .ok (.getfield 65, 3) := dk_180 0 65 (dk_at dksX2_exchange_0 1 rfl rfl)
theorem dX2_exchange_4 : decode cX2_exchange 4 = .ok (.iload_n 1, 1) := dk_27 (dk_at dksX2_exchange_0 4 rfl rfl)
theorem dX2_exchange_5 : decode cX2_exchange 5 = .ok (.iaload, 1) := dk_46 (dk_at dksX2_exchange_0 5 rfl rfl)
theorem dX2_exchange_6 : decode cX2_exchange 6 = .ok (.istore_n 3, 1) := dk_62 (dk_at dksX2_exchange_0 6 rfl rfl)
theorem dX2_exchange_7 : decode cX2_exchange 7 = .ok (.aload_n 0, 1) := dk_42 (dk_at dksX2_exchange_0 7 rfl rfl)
theorem dX2_exchange_8 : decode cX2_exchange 8 = .ok (.getfield 65, 3) := dk_180 0 65 (dk_at dksX2_exchange_0 8 rfl rfl)
theorem dX2_exchange_11 : decode cX2_exchange 11 = .ok (.iload_n 1, 1) := dk_27 (dk_at dksX2_exchange_0 11 rfl rfl)
theorem dX2_exchange_12 : decode cX2_exchange 12 = .ok (.aload_n 0, 1) := dk_42 (dk_at dksX2_exchange_0 12 rfl rfl)
theorem dX2_exchange_13 : decode cX2_exchange 13 = .ok (.getfield 65, 3) := dk_180 0 65 (dk_at dksX2_exchange_0 13 rfl rfl)
theorem dX2_exchange_16 : decode cX2_exchange 16 = .ok (.iload_n 2, 1) := dk_28 (dk_at dksX2_exchange_0 16 rfl rfl)
theorem dX2_exchange_17 : decode cX2_exchange 17 = .ok (.iaload, 1) := dk_46 (dk_at dksX2_exchange_0 17 rfl rfl)
theorem dX2_exchange_18 : decode cX2_exchange 18 = .ok (.iastore, 1) := dk_79 (dk_at dksX2_exchange_0 18 rfl rfl)
theorem dX2_exchange_19 : decode cX2_exchange 19 = .ok (.aload_n 0, 1) := dk_42 (dk_at dksX2_exchange_0 19 rfl rfl)
theorem dX2_exchange_20 : decode cX2_exchange 20 = .ok (.getfield 65, 3) := dk_180 0 65 (dk_at dksX2_exchange_0 20 rfl rfl)
theorem dX2_exchange_23 : decode cX2_exchange 23 = .ok (.iload_n 2, 1) := dk_28 (dk_at dksX2_exchange_0 23 rfl rfl)
theorem dX2_exchange_24 : decode cX2_exchange 24 = .ok (.iload_n 3, 1) := dk_29 (dk_at dksX2_exchange_1 0 rfl rfl)
theorem dX2_exchange_25 : decode cX2_exchange 25 = .ok (.iastore, 1) := dk_79 (dk_at dksX2_exchange_1 1 rfl rfl)
theorem dX2_exchange_26 : decode cX2_exchange 26 = .ok (.return_, 1) := dk_177 (dk_at dksX2_exchange_1 2 rfl rfl)
def dkwX2_pilgrims_4 : List UInt8 := [162, 0, 13, 21, 7, 21, 4, 160, 0, 6, 132, 5, 1, 132, 6, 1, 167, 255, 206, 21, 5, 172]
abbrev dktX2_pilgrims_4 : List UInt8 := dkwX2_pilgrims_4 ++ []
def dkwX2_pilgrims_3 : List UInt8 := [46, 182, 1, 130, 54, 7, 42, 21, 7, 182, 1, 133, 153, 0, 23, 42, 16, 6, 182, 1, 130, 29]
abbrev dktX2_pilgrims_3 : List UInt8 := dkwX2_pilgrims_3 ++ dktX2_pilgrims_4
def dkwX2_pilgrims_2 : List UInt8 := [16, 15, 96, 181, 1, 121, 3, 54, 5, 3, 54, 6, 21, 6, 28, 162, 0, 50, 42, 42, 180, 0, 7, 3]
abbrev dktX2_pilgrims_2 : List UInt8 := dkwX2_pilgrims_2 ++ dktX2_pilgrims_3
def dkwX2_pilgrims_1 : List UInt8 := [16, 6, 184, 0, 75, 153, 0, 12, 42, 21, 4, 182, 0, 83, 154, 0, 5, 2, 172, 42, 27, 16, 7, 104]
abbrev dktX2_pilgrims_1 : List UInt8 := dkwX2_pilgrims_1 ++ dktX2_pilgrims_2
def dkwX2_pilgrims_0 : List UInt8 := [27, 3, 17, 39, 15, 184, 0, 75, 153, 0, 32, 28, 4, 16, 99, 184, 0, 75, 153, 0, 22, 29, 3]
abbrev dktX2_pilgrims_0 : List UInt8 := dkwX2_pilgrims_0 ++ dktX2_pilgrims_1
theorem dksX2_pilgrims_0 : cX2_pilgrims.data.toList.drop 0 = dktX2_pilgrims_0 := by decide +kernel
theorem dksX2_pilgrims_1 : cX2_pilgrims.data.toList.drop 23 = dktX2_pilgrims_1 := dk_seg dksX2_pilgrims_0 23 rfl rfl
theorem dksX2_pilgrims_2 : cX2_pilgrims.data.toList.drop 47 = dktX2_pilgrims_2 := dk_seg dksX2_pilgrims_1 24 rfl rfl
theorem dksX2_pilgrims_3 : cX2_pilgrims.data.toList.drop 71 = dktX2_pilgrims_3 := dk_seg dksX2_pilgrims_2 24 rfl rfl
theorem dksX2_pilgrims_4 : cX2_pilgrims.data.toList.drop 93 = dktX2_pilgrims_4 := dk_seg dksX2_pilgrims_3 22 rfl rfl
theorem dX2_pilgrims_0 : decode cX2_pilgrims 0 = .ok (.iload_n 1, 1) := dk_27 (dk_at dksX2_pilgrims_0 0 rfl rfl)
theorem dX2_pilgrims_1 : decode cX2_pilgrims 1 = .ok (.iconst 0, 1) := dk_3 (dk_at dksX2_pilgrims_0 1 rfl rfl)
theorem dX2_pilgrims_2 : decode cX2_pilgrims 2 = .ok (.sipush 9999, 3) := dk_17 39 15 (dk_at dksX2_pilgrims_0 2 rfl rfl)
theorem dX2_pilgrims_5 : decode cX2_pilgrims 5 = .ok (.invokestatic 75, 3) := dk_184 0 75 (dk_at dksX2_pilgrims_0 5 rfl rfl)
theorem dX2_pilgrims_8 : decode cX2_pilgrims 8 = .ok (.ifCond .eq 32, 3) := dk_153 0 32 (dk_at dksX2_pilgrims_0 8 rfl rfl)
theorem dX2_pilgrims_11 : decode cX2_pilgrims 11 = .ok (.iload_n 2, 1) := dk_28 (dk_at dksX2_pilgrims_0 11 rfl rfl)
theorem dX2_pilgrims_12 : decode cX2_pilgrims 12 = .ok (.iconst 1, 1) := dk_4 (dk_at dksX2_pilgrims_0 12 rfl rfl)
theorem dX2_pilgrims_13 : decode cX2_pilgrims 13 = .ok (.bipush 99, 2) := dk_16 99 (dk_at dksX2_pilgrims_0 13 rfl rfl)
theorem dX2_pilgrims_15 : decode cX2_pilgrims 15 = .ok (.invokestatic 75, 3) := dk_184 0 75 (dk_at dksX2_pilgrims_0 15 rfl rfl)
theorem dX2_pilgrims_18 : decode cX2_pilgrims 18 = .ok (.ifCond .eq 22, 3) := dk_153 0 22 (dk_at dksX2_pilgrims_0 18 rfl rfl)
theorem dX2_pilgrims_21 : decode cX2_pilgrims 21 = .ok (.iload_n 3, 1) := dk_29 (dk_at dksX2_pilgrims_0 21 rfl rfl)
theorem dX2_pilgrims_22 : decode cX2_pilgrims 22 = .ok (.iconst 0, 1) := dk_3 (dk_at dksX2_pilgrims_0 22 rfl rfl)
theorem dX2_pilgrims_23 : decode cX2_pilgrims 23 = .ok (.bipush 6, 2) := dk_16 6 (dk_at dksX2_pilgrims_1 0 rfl rfl)
theorem dX2_pilgrims_25 : decode cX2_pilgrims 25 = .ok (.invokestatic 75, 3) := dk_184 0 75 (dk_at dksX2_pilgrims_1 2 rfl rfl)
theorem dX2_pilgrims_28 : decode cX2_pilgrims 28 = .ok (.ifCond .eq 12, 3) := dk_153 0 12 (dk_at dksX2_pilgrims_1 5 rfl rfl)
theorem dX2_pilgrims_31 : decode cX2_pilgrims 31 = .ok (.aload_n 0, 1) := dk_42 (dk_at dksX2_pilgrims_1 8 rfl rfl)
theorem dX2_pilgrims_32 : decode cX2_pilgrims 32 = .ok (.iload 4, 2) := dk_21 4 (dk_at dksX2_pilgrims_1 9 rfl rfl)
theorem dX2_pilgrims_34 : decode cX2_pilgrims 34 = .ok (.invokevirtual 83, 3) := dk_182 0 83 (dk_at dksX2_pilgrims_1 11 rfl rfl)
theorem dX2_pilgrims_37 : decode cX2_pilgrims 37 = .ok (.ifCond .ne 5, 3) := dk_154 0 5 (dk_at dksX2_pilgrims_1 14 rfl rfl)
theorem dX2_pilgrims_40 : decode cX2_pilgrims 40 = .ok (.iconst (-1), 1) := dk_2 (dk_at dksX2_pilgrims_1 17 rfl rfl)
theorem dX2_pilgrims_41 : decode cX2_pilgrims 41 = .ok (.ireturn, 1) := dk_172 (dk_at dksX2_pilgrims_1 18 rfl rfl)
theorem dX2_pilgrims_42 : decode cX2_pilgrims 42 = .ok (.aload_n 0, 1) := dk_42 (dk_at dksX2_pilgrims_1 19 rfl rfl)
theorem dX2_pilgrims_43 : decode cX2_pilgrims 43 = .ok (.iload_n 1, 1) := dk_27 (dk_at dksX2_pilgrims_1 20 rfl rfl)
theorem dX2_pilgrims_44 : decode cX2_pilgrims 44 = .ok (.bipush 7, 2) := dk_16 7 (dk_at dksX2_pilgrims_1 21 rfl rfl)
theorem dX2_pilgrims_46 : decode cX2_pilgrims 46 = .ok (.imul, 1) := dk_104 (dk_at dksX2_pilgrims_1 23 rfl rfl)
theorem dX2_pilgrims_47 : decode cX2_pilgrims 47 = .ok (.bipush 15, 2) := dk_16 15 (dk_at dksX2_pilgrims_2 0 rfl rfl)
theorem dX2_pilgrims_49 : decode cX2_pilgrims 49 = .ok (.iadd, 1) := dk_96 (dk_at dksX2_pilgrims_2 2 rfl rfl)
theorem dX2_pilgrims_50 : decode cX2_pilgrims 50 = .ok (.putfield 377, 3) := dk_181 1 121 (dk_at dksX2_pilgrims_2 3 rfl rfl)
theorem dX2_pilgrims_53 : decode cX2_pilgrims 53 = .ok (.iconst 0, 1) := dk_3 (dk_at dksX2_pilgrims_2 6 rfl rfl)
theorem dX2_pilgrims_54 : decode cX2_pilgrims 54 = .ok (.istore 5, 2) := dk_54 5 (dk_at dksX2_pilgrims_2 7 rfl rfl)
theorem dX2_pilgrims_56 : decode cX2_pilgrims 56 = .ok (.iconst 0, 1) := dk_3 (dk_at dksX2_pilgrims_2 9 rfl rfl)
theorem dX2_pilgrims_57 : decode cX2_pilgrims 57 = .ok (.istore 6, 2) := dk_54 6 (dk_at dksX2_pilgrims_2 10 rfl rfl)
theorem dX2_pilgrims_59 : decode cX2_pilgrims 59 = .ok (.iload 6, 2) := dk_21 6 (dk_at dksX2_pilgrims_2 12 rfl rfl)
theorem dX2_pilgrims_61 : decode cX2_pilgrims 61 = .ok (.iload_n 2, 1) := dk_28 (dk_at dksX2_pilgrims_2 14 rfl rfl)
theorem dX2_pilgrims_62 : decode cX2_pilgrims 62 = .ok (.if_icmp .ge 50, 3) := dk_162 0 50 (dk_at dksX2_pilgrims_2 15 rfl rfl)
theorem dX2_pilgrims_65 : decode cX2_pilgrims 65 = .ok (.aload_n 0, 1) := dk_42 (dk_at dksX2_pilgrims_2 18 rfl rfl)
theorem dX2_pilgrims_66 : decode cX2_pilgrims 66 = .ok (.aload_n 0, 1) := dk_42 (dk_at dksX2_pilgrims_2 19 rfl rfl)
theorem dX2_pilgrims_67 : decode cX2_pilgrims 67 = .ok (.getfield 7, 3) := dk_180 0 7 (dk_at dksX2_pilgrims_2 20 rfl rfl)
theorem dX2_pilgrims_70 : decode cX2_pilgrims 70 = .ok (.iconst 0, 1) := dk_3 (dk_at dksX2_pilgrims_2 23 rfl rfl)
theorem dX2_pilgrims_71 : decode cX2_pilgrims 71 = .ok (.iaload, 1) := dk_46 (dk_at dksX2_pilgrims_3 0 rfl rfl)
theorem dX2_pilgrims_72 : decode cX2_pilgrims 72 = .ok (.invokevirtual 386, 3) := dk_182 1 130 (dk_at dksX2_pilgrims_3 1 rfl rfl)
theorem dX2_pilgrims_75 : decode cX2_pilgrims 75 = .ok (.istore 7, 2) := dk_54 7 (dk_at dksX2_pilgrims_3 4 rfl rfl)
theorem dX2_pilgrims_77 : decode cX2_pilgrims 77 = .ok (.aload_n 0, 1) := dk_42 (dk_at dksX2_pilgrims_3 6 rfl rfl)
theorem dX2_pilgrims_78 : decode cX2_pilgrims 78 = .ok (.iload 7, 2) := dk_21 7 (dk_at dksX2_pilgrims_3 7 rfl rfl)
theorem dX2_pilgrims_80 : decode cX2_pilgrims 80 = .ok (.invokevirtual 389, 3) := dk_182 1 133 (dk_at dksX2_pilgrims_3 9 rfl rfl)
theorem dX2_pilgrims_83 : decode cX2_pilgrims 83 = .ok (.ifCond .eq 23, 3) := dk_153 0 23 (dk_at dksX2_pilgrims_3 12 rfl rfl)
theorem dX2_pilgrims_86 : decode cX2_pilgrims 86 = .ok (.aload_n 0, 1) := dk_42 (dk_at dksX2_pilgrims_3 15 rfl rfl)
theorem dX2_pilgrims_87 : decode cX2_pilgrims 87 = .ok (.bipush 6, 2) := dk_16 6 (dk_at dksX2_pilgrims_3 16 rfl rfl)
theorem dX2_pilgrims_89 : decode cX2_pilgrims 89 = .ok (.invokevirtual 386, 3) := dk_182 1 130 (dk_at dksX2_pilgrims_3 18 rfl rfl)
theorem dX2_pilgrims_92 : decode cX2_pilgrims 92 = .ok (.iload_n 3, 1) := dk_29 (dk_at dksX2_pilgrims_3 21 rfl rfl)
theorem dX2_pilgrims_93 : decode cX2_pilgrims 93 = .ok (.if_icmp .ge 13, 3) := dk_162 0 13 (dk_at dksX2_pilgrims_4 0 rfl rfl)
theorem dX2_pilgrims_96 : decode cX2_pilgrims 96 = .ok (.iload 7, 2) := dk_21 7 (dk_at dksX2_pilgrims_4 3 rfl rfl)
theorem dX2_pilgrims_98 : decode cX2_pilgrims 98 = .ok (.iload 4, 2) := dk_21 4 (dk_at dksX2_pilgrims_4 5 rfl rfl)
theorem dX2_pilgrims_100 : decode cX2_pilgrims 100 = .ok (.if_icmp .ne 6, 3) := dk_160 0 6 (dk_at dksX2_pilgrims_4 7 rfl rfl)
theorem dX2_pilgrims_103 : decode cX2_pilgrims 103 = .ok (.iinc 5 1, 3) := dk_132 5 1 (dk_at dksX2_pilgrims_4 10 rfl rfl)
theorem dX2_pilgrims_106 : decode cX2_pilgrims 106 = .ok (.iinc 6 1, 3) := dk_132 6 1 (dk_at dksX2_pilgrims_4 13 rfl rfl)
theorem dX2_pilgrims_109 : decode cX2_pilgrims 109 = .ok (.goto (-50), 3) := dk_167 255 206 (dk_at dksX2_pilgrims_4 16 rfl rfl)
theorem dX2_pilgrims_112 : decode cX2_pilgrims 112 = .ok (.iload 5, 2) := dk_21 5 (dk_at dksX2_pilgrims_4 19 rfl rfl)
theorem dX2_pilgrims_114 : decode cX2_pilgrims 114 = .ok (.ireturn, 1) := dk_172 (dk_at dksX2_pilgrims_4 21 rfl rfl)
def dkwX2_draw_1 : List UInt8 := [113, 136, 181, 1, 121, 28, 172]
abbrev dktX2_draw_1 : List UInt8 := dkwX2_draw_1 ++ []
def dkwX2_draw_0 : List UInt8 := [42, 180, 1, 121, 27, 112, 61, 42, 42, 180, 1, 121, 133, 20, 1, 124, 105, 20, 1, 126, 97, 20, 1, 128]
abbrev dktX2_draw_0 : List UInt8 := dkwX2_draw_0 ++ dktX2_draw_1
theorem dksX2_draw_0 : cX2_draw.data.toList.drop 0 = dktX2_draw_0 := by decide +kernel
theorem dksX2_draw_1 : cX2_draw.data.toList.drop 24 = dktX2_draw_1 := dk_seg dksX2_draw_0 24 rfl rfl
theorem dX2_draw_0 : decode cX2_draw 0 = .ok (.aload_n 0, 1) := dk_42 (dk_at dksX2_draw_0 0 rfl rfl)
theorem dX2_draw_1 : decode cX2_draw 1 = .ok (.getfield 377, 3) := dk_180 1 121 (dk_at dksX2_draw_0 1 rfl rfl)
theorem dX2_draw_4 : decode cX2_draw 4 = .ok (.iload_n 1, 1) := dk_27 (dk_at dksX2_draw_0 4 rfl rfl)
theorem dX2_draw_5 : decode cX2_draw 5 = .ok (.irem, 1) := dk_112 (dk_at dksX2_draw_0 5 rfl rfl)
theorem dX2_draw_6 : decode cX2_draw 6 = .ok (.istore_n 2, 1) := dk_61 (dk_at dksX2_draw_0 6 rfl rfl)
theorem dX2_draw_7 : decode cX2_draw 7 = .ok (.aload_n 0, 1) := dk_42 (dk_at dksX2_draw_0 7 rfl rfl)
theorem dX2_draw_8 : decode cX2_draw 8 = .ok (.aload_n 0, 1) := dk_42 (dk_at dksX2_draw_0 8 rfl rfl)
theorem dX2_draw_9 : decode cX2_draw 9 = .ok (.getfield 377, 3) := dk_180 1 121 (dk_at dksX2_draw_0 9 rfl rfl)
theorem dX2_draw_12 : decode cX2_draw 12 = .ok (.i2l, 1) := dk_133 (dk_at dksX2_draw_0 12 rfl rfl)
theorem dX2_draw_13 : decode cX2_draw 13 = .ok (.ldc2_w 380, 3) := dk_20 1 124 (dk_at dksX2_draw_0 13 rfl rfl)
theorem dX2_draw_16 : decode cX2_draw 16 = .ok (.lmul, 1) := dk_105 (dk_at dksX2_draw_0 16 rfl rfl)
theorem dX2_draw_17 : decode cX2_draw 17 = .ok (.ldc2_w 382, 3) := dk_20 1 126 (dk_at dksX2_draw_0 17 rfl rfl)
theorem dX2_draw_20 : decode cX2_draw 20 = .ok (.ladd, 1) := dk_97 (dk_at dksX2_draw_0 20 rfl rfl)
theorem dX2_draw_21 : decode cX2_draw 21 = .ok (.ldc2_w 384, 3) := dk_20 1 128 (dk_at dksX2_draw_0 21 rfl rfl)
theorem dX2_draw_24 : decode cX2_draw 24 = .ok (.lrem, 1) := dk_113 (dk_at dksX2_draw_1 0 rfl rfl)
theorem dX2_draw_25 : decode cX2_draw 25 = .ok (.l2i, 1) := dk_136 (dk_at dksX2_draw_1 1 rfl rfl)
theorem dX2_draw_26 : decode cX2_draw 26 = .ok (.putfield 377, 3) := dk_181 1 121 (dk_at dksX2_draw_1 2 rfl rfl)
theorem dX2_draw_29 : decode cX2_draw 29 = .ok (.iload_n 2, 1) := dk_28 (dk_at dksX2_draw_1 5 rfl rfl)
theorem dX2_draw_30 : decode cX2_draw 30 = .ok (.ireturn, 1) := dk_172 (dk_at dksX2_draw_1 6 rfl rfl)
def dkwX2_isHolyTown_1 : List UInt8 := [160, 0, 13, 42, 28, 182, 1, 50, 153, 0, 5, 4, 172, 132, 2, 1, 167, 255, 218, 3, 172]
abbrev dktX2_isHolyTown_1 : List UInt8 := dkwX2_isHolyTown_1 ++ []
def dkwX2_isHolyTown_0 : List UInt8 := [3, 61, 28, 42, 180, 0, 7, 4, 46, 162, 0, 34, 42, 180, 0, 7, 28, 184, 0, 87, 6, 96, 46, 27]
abbrev dktX2_isHolyTown_0 : List UInt8 := dkwX2_isHolyTown_0 ++ dktX2_isHolyTown_1
theorem dksX2_isHolyTown_0 : cX2_isHolyTown.data.toList.drop 0 = dktX2_isHolyTown_0 := by decide +kernel
theorem dksX2_isHolyTown_1 : cX2_isHolyTown.data.toList.drop 24 = dktX2_isHolyTown_1 := dk_seg dksX2_isHolyTown_0 24 rfl rfl
theorem dX2_isHolyTown_0 : decode cX2_isHolyTown 0 = .ok (.iconst 0, 1) := dk_3 (dk_at dksX2_isHolyTown_0 0 rfl rfl)
theorem dX2_isHolyTown_1 : decode cX2_isHolyTown 1 = .ok (.istore_n 2, 1) := dk_61 (dk_at dksX2_isHolyTown_0 1 rfl rfl)
theorem dX2_isHolyTown_2 : decode cX2_isHolyTown 2 = .ok (.iload_n 2, 1) := dk_28 (dk_at dksX2_isHolyTown_0 2 rfl rfl)
theorem dX2_isHolyTown_3 : decode cX2_isHolyTown 3 = .ok (.aload_n 0, 1) := dk_42 (dk_at dksX2_isHolyTown_0 3 rfl rfl)
theorem dX2_isHolyTown_4 : decode cX2_isHolyTown 4 = .ok (.getfield 7, 3) := dk_180 0 7 (dk_at dksX2_isHolyTown_0 4 rfl rfl)
theorem dX2_isHolyTown_7 : decode cX2_isHolyTown 7 = .ok (.iconst 1, 1) := dk_4 (dk_at dksX2_isHolyTown_0 7 rfl rfl)
theorem dX2_isHolyTown_8 : decode cX2_isHolyTown 8 = .ok (.iaload, 1) := dk_46 (dk_at dksX2_isHolyTown_0 8 rfl rfl)
theorem dX2_isHolyTown_9 : decode cX2_isHolyTown 9 = .ok (.if_icmp .ge 34, 3) := dk_162 0 34 (dk_at dksX2_isHolyTown_0 9 rfl rfl)
theorem dX2_isHolyTown_12 : decode cX2_isHolyTown 12 = .ok (.aload_n 0, 1) := dk_42 (dk_at dksX2_isHolyTown_0 12 rfl rfl)
theorem dX2_isHolyTown_13 : decode cX2_isHolyTown 13 = .ok (.getfield 7, 3) := dk_180 0 7 (dk_at dksX2_isHolyTown_0 13 rfl rfl)
theorem dX2_isHolyTown_16 : decode cX2_isHolyTown 16 = .ok (.iload_n 2, 1) := dk_28 (dk_at dksX2_isHolyTown_0 16 rfl rfl)
theorem dX2_isHolyTown_17 : decode cX2_isHolyTown 17 = .ok (.invokestatic 87, 3) := dk_184 0 87 (dk_at dksX2_isHolyTown_0 17 rfl rfl)
theorem dX2_isHolyTown_20 : decode cX2_isHolyTown 20 = .ok (.iconst 3, 1) := dk_6 (dk_at dksX2_isHolyTown_0 20 rfl rfl)
theorem dX2_isHolyTown_21 : decode cX2_isHolyTown 21 = .ok (.iadd, 1) := dk_96 (dk_at dksX2_isHolyTown_0 21 rfl rfl)
theorem dX2_isHolyTown_22 : decode cX2_isHolyTown 22 = .ok (.iaload, 1) := dk_46 (dk_at dksX2_isHolyTown_0 22 rfl rfl)
theorem dX2_isHolyTown_23 : decode cX2_isHolyTown 23 = .ok (.iload_n 1, 1) := dk_27 (dk_at dksX2_isHolyTown_0 23 rfl rfl)
theorem dX2_isHolyTown_24 : decode cX2_isHolyTown 24 = .ok (.if_icmp .ne 13, 3) := dk_160 0 13 (dk_at dksX2_isHolyTown_1 0 rfl rfl)
theorem dX2_isHolyTown_27 : decode cX2_isHolyTown 27 = .ok (.aload_n 0, 1) := dk_42 (dk_at dksX2_isHolyTown_1 3 rfl rfl)
theorem dX2_isHolyTown_28 : decode cX2_isHolyTown 28 = .ok (.iload_n 2, 1) := dk_28 (dk_at dksX2_isHolyTown_1 4 rfl rfl)
theorem dX2_isHolyTown_29 : decode cX2_isHolyTown 29 = .ok (.invokevirtual 306, 3) := dk_182 1 50 (dk_at dksX2_isHolyTown_1 5 rfl rfl)
theorem dX2_isHolyTown_32 : decode cX2_isHolyTown 32 = .ok (.ifCond .eq 5, 3) := dk_153 0 5 (dk_at dksX2_isHolyTown_1 8 rfl rfl)
theorem dX2_isHolyTown_35 : decode cX2_isHolyTown 35 = .ok (.iconst 1, 1) := dk_4 (dk_at dksX2_isHolyTown_1 11 rfl rfl)
theorem dX2_isHolyTown_36 : decode cX2_isHolyTown 36 = .ok (.ireturn, 1) := dk_172 (dk_at dksX2_isHolyTown_1 12 rfl rfl)
theorem dX2_isHolyTown_37 : decode cX2_isHolyTown 37 = .ok (.iinc 2 1, 3) := dk_132 2 1 (dk_at dksX2_isHolyTown_1 13 rfl rfl)
theorem dX2_isHolyTown_40 : decode cX2_isHolyTown 40 = .ok (.goto (-38), 3) := dk_167 255 218 (dk_at dksX2_isHolyTown_1 16 rfl rfl)
theorem dX2_isHolyTown_43 : decode cX2_isHolyTown 43 = .ok (.iconst 0, 1) := dk_3 (dk_at dksX2_isHolyTown_1 19 rfl rfl)
theorem dX2_isHolyTown_44 : decode cX2_isHolyTown 44 = .ok (.ireturn, 1) := dk_172 (dk_at dksX2_isHolyTown_1 20 rfl rfl)
def dkwX2_image_0 : List UInt8 := [42, 180, 0, 7, 42, 180, 0, 13, 184, 0, 71, 42, 180, 0, 7, 5, 46, 172]
abbrev dktX2_image_0 : List UInt8 := dkwX2_image_0 ++ []
theorem dksX2_image_0 : cX2_image.data.toList.drop 0 = dktX2_image_0 := by decide +kernel
theorem dX2_image_0 : decode cX2_image 0 = .ok (.aload_n 0, 1) := dk_42 (dk_at dksX2_image_0 0 rfl rfl)
theorem dX2_image_1 : decode cX2_image 1 = .ok (.getfield 7, 3) := dk_180 0 7 (dk_at dksX2_image_0 1 rfl rfl)
theorem dX2_image_4 : decode cX2_image 4 = .ok (.aload_n 0, 1) := dk_42 (dk_at dksX2_image_0 4 rfl rfl)
theorem dX2_image_5 : decode cX2_image 5 = .ok (.getfield 13, 3) := dk_180 0 13 (dk_at dksX2_image_0 5 rfl rfl)
theorem dX2_image_8 : decode cX2_image 8 = .ok (.invokestatic 71, 3) := dk_184 0 71 (dk_at dksX2_image_0 8 rfl rfl)
theorem dX2_image_11 : decode cX2_image 11 = .ok (.aload_n 0, 1) := dk_42 (dk_at dksX2_image_0 11 rfl rfl)
theorem dX2_image_12 : decode cX2_image 12 = .ok (.getfield 7, 3) := dk_180 0 7 (dk_at dksX2_image_0 12 rfl rfl)
theorem dX2_image_15 : decode cX2_image 15 = .ok (.iconst 2, 1) := dk_5 (dk_at dksX2_image_0 15 rfl rfl)
theorem dX2_image_16 : decode cX2_image 16 = .ok (.iaload, 1) := dk_46 (dk_at dksX2_image_0 16 rfl rfl)
theorem dX2_image_17 : decode cX2_image 17 = .ok (.ireturn, 1) := dk_172 (dk_at dksX2_image_0 17 rfl rfl)
def dkwX2_back_0 : List UInt8 := [42, 180, 0, 13, 42, 180, 0, 7, 184, 0, 71, 42, 180, 0, 7, 5, 46, 172]
abbrev dktX2_back_0 : List UInt8 := dkwX2_back_0 ++ []
theorem dksX2_back_0 : cX2_back.data.toList.drop 0 = dktX2_back_0 := by decide +kernel
theorem dX2_back_0 : decode cX2_back 0 = .ok (.aload_n 0, 1) := dk_42 (dk_at dksX2_back_0 0 rfl rfl)
theorem dX2_back_1 : decode cX2_back 1 = .ok (.getfield 13, 3) := dk_180 0 13 (dk_at dksX2_back_0 1 rfl rfl)
theorem dX2_back_4 : decode cX2_back 4 = .ok (.aload_n 0, 1) := dk_42 (dk_at dksX2_back_0 4 rfl rfl)
theorem dX2_back_5 : decode cX2_back 5 = .ok (.getfield 7, 3) := dk_180 0 7 (dk_at dksX2_back_0 5 rfl rfl)
theorem dX2_back_8 : decode cX2_back 8 = .ok (.invokestatic 71, 3) := dk_184 0 71 (dk_at dksX2_back_0 8 rfl rfl)
theorem dX2_back_11 : decode cX2_back 11 = .ok (.aload_n 0, 1) := dk_42 (dk_at dksX2_back_0 11 rfl rfl)
theorem dX2_back_12 : decode cX2_back 12 = .ok (.getfield 7, 3) := dk_180 0 7 (dk_at dksX2_back_0 12 rfl rfl)
theorem dX2_back_15 : decode cX2_back 15 = .ok (.iconst 2, 1) := dk_5 (dk_at dksX2_back_0 15 rfl rfl)
theorem dX2_back_16 : decode cX2_back 16 = .ok (.iaload, 1) := dk_46 (dk_at dksX2_back_0 16 rfl rfl)
theorem dX2_back_17 : decode cX2_back 17 = .ok (.ireturn, 1) := dk_172 (dk_at dksX2_back_0 17 rfl rfl)
def dkwX2_about_4 : List UInt8 := [42, 180, 0, 7, 27, 46, 172, 42, 180, 0, 114, 172, 16, 254, 172]
abbrev dktX2_about_4 : List UInt8 := dkwX2_about_4 ++ []
def dkwX2_about_3 : List UInt8 := [170, 0, 0, 0, 65, 0, 0, 0, 0, 0, 0, 0, 9, 0, 0, 0, 53, 0, 0, 0, 53, 0, 0, 0, 53, 0, 0, 0, 53, 0, 0, 0, 53, 0, 0, 0, 53, 0, 0, 0, 53, 0, 0, 0, 53, 0, 0, 0, 53, 0, 0, 0, 60]
abbrev dktX2_about_3 : List UInt8 := dkwX2_about_3 ++ dktX2_about_4
def dkwX2_about_2 : List UInt8 := [16, 20, 100, 182, 1, 136, 172, 27]
abbrev dktX2_about_2 : List UInt8 := dkwX2_about_2 ++ dktX2_about_3
def dkwX2_about_1 : List UInt8 := [182, 0, 97, 172, 27, 16, 20, 16, 19, 42, 180, 0, 7, 3, 46, 96, 184, 0, 75, 153, 0, 12, 42, 27]
abbrev dktX2_about_1 : List UInt8 := dkwX2_about_1 ++ dktX2_about_2
def dkwX2_about_0 : List UInt8 := [27, 16, 10, 16, 9, 42, 180, 0, 7, 3, 46, 96, 184, 0, 75, 153, 0, 12, 42, 27, 16, 10, 100]
abbrev dktX2_about_0 : List UInt8 := dkwX2_about_0 ++ dktX2_about_1
theorem dksX2_about_0 : cX2_about.data.toList.drop 0 = dktX2_about_0 := by decide +kernel
theorem dksX2_about_1 : cX2_about.data.toList.drop 23 = dktX2_about_1 := dk_seg dksX2_about_0 23 rfl rfl
theorem dksX2_about_2 : cX2_about.data.toList.drop 47 = dktX2_about_2 := dk_seg dksX2_about_1 24 rfl rfl
theorem dksX2_about_3 : cX2_about.data.toList.drop 55 = dktX2_about_3 := dk_seg dksX2_about_2 8 rfl rfl
theorem dksX2_about_4 : cX2_about.data.toList.drop 108 = dktX2_about_4 := dk_seg dksX2_about_3 53 rfl rfl
theorem dX2_about_0 : decode cX2_about 0 = .ok (.iload_n 1, 1) := dk_27 (dk_at dksX2_about_0 0 rfl rfl)
theorem dX2_about_1 : decode cX2_about 1 = .ok (.bipush 10, 2) := dk_16 10 (dk_at dksX2_about_0 1 rfl rfl)
theorem dX2_about_3 : decode cX2_about 3 = .ok (.bipush 9, 2) := dk_16 9 (dk_at dksX2_about_0 3 rfl rfl)
theorem dX2_about_5 : decode cX2_about 5 = .ok (.aload_n 0, 1) := dk_42 (dk_at dksX2_about_0 5 rfl rfl)
theorem dX2_about_6 : decode cX2_about 6 = .ok (.getfield 7, 3) := dk_180 0 7 (dk_at dksX2_about_0 6 rfl rfl)
theorem dX2_about_9 : decode cX2_about 9 = .ok (.iconst 0, 1) := dk_3 (dk_at dksX2_about_0 9 rfl rfl)
theorem dX2_about_10 : decode cX2_about 10 = .ok (.iaload, 1) := dk_46 (dk_at dksX2_about_0 10 rfl rfl)
theorem dX2_about_11 : decode cX2_about 11 = .ok (.iadd, 1) := dk_96 (dk_at dksX2_about_0 11 rfl rfl)
theorem dX2_about_12 : decode cX2_about 12 = .ok (.invokestatic 75, 3) := dk_184 0 75 (dk_at dksX2_about_0 12 rfl rfl)
theorem dX2_about_15 : decode cX2_about 15 = .ok (.ifCond .eq 12, 3) := dk_153 0 12 (dk_at dksX2_about_0 15 rfl rfl)
theorem dX2_about_18 : decode cX2_about 18 = .ok (.aload_n 0, 1) := dk_42 (dk_at dksX2_about_0 18 rfl rfl)
theorem dX2_about_19 : decode cX2_about 19 = .ok (.iload_n 1, 1) := dk_27 (dk_at dksX2_about_0 19 rfl rfl)
theorem dX2_about_20 : decode cX2_about 20 = .ok (.bipush 10, 2) := dk_16 10 (dk_at dksX2_about_0 20 rfl rfl)
theorem dX2_about_22 : decode cX2_about 22 = .ok (.isub, 1) := dk_100 (dk_at dksX2_about_0 22 rfl rfl)
theorem dX2_about_23 : decode cX2_about 23 = .ok (.invokevirtual 97, 3) := dk_182 0 97 (dk_at dksX2_about_1 0 rfl rfl)
theorem dX2_about_26 : decode cX2_about 26 = .ok (.ireturn, 1) := dk_172 (dk_at dksX2_about_1 3 rfl rfl)
theorem dX2_about_27 : decode cX2_about 27 = .ok (.iload_n 1, 1) := dk_27 (dk_at dksX2_about_1 4 rfl rfl)
theorem dX2_about_28 : decode cX2_about 28 = .ok (.bipush 20, 2) := dk_16 20 (dk_at dksX2_about_1 5 rfl rfl)
theorem dX2_about_30 : decode cX2_about 30 = .ok (.bipush 19, 2) := dk_16 19 (dk_at dksX2_about_1 7 rfl rfl)
theorem dX2_about_32 : decode cX2_about 32 = .ok (.aload_n 0, 1) := dk_42 (dk_at dksX2_about_1 9 rfl rfl)
theorem dX2_about_33 : decode cX2_about 33 = .ok (.getfield 7, 3) := dk_180 0 7 (dk_at dksX2_about_1 10 rfl rfl)
theorem dX2_about_36 : decode cX2_about 36 = .ok (.iconst 0, 1) := dk_3 (dk_at dksX2_about_1 13 rfl rfl)
theorem dX2_about_37 : decode cX2_about 37 = .ok (.iaload, 1) := dk_46 (dk_at dksX2_about_1 14 rfl rfl)
theorem dX2_about_38 : decode cX2_about 38 = .ok (.iadd, 1) := dk_96 (dk_at dksX2_about_1 15 rfl rfl)
theorem dX2_about_39 : decode cX2_about 39 = .ok (.invokestatic 75, 3) := dk_184 0 75 (dk_at dksX2_about_1 16 rfl rfl)
theorem dX2_about_42 : decode cX2_about 42 = .ok (.ifCond .eq 12, 3) := dk_153 0 12 (dk_at dksX2_about_1 19 rfl rfl)
theorem dX2_about_45 : decode cX2_about 45 = .ok (.aload_n 0, 1) := dk_42 (dk_at dksX2_about_1 22 rfl rfl)
theorem dX2_about_46 : decode cX2_about 46 = .ok (.iload_n 1, 1) := dk_27 (dk_at dksX2_about_1 23 rfl rfl)
theorem dX2_about_47 : decode cX2_about 47 = .ok (.bipush 20, 2) := dk_16 20 (dk_at dksX2_about_2 0 rfl rfl)
theorem dX2_about_49 : decode cX2_about 49 = .ok (.isub, 1) := dk_100 (dk_at dksX2_about_2 2 rfl rfl)
theorem dX2_about_50 : decode cX2_about 50 = .ok (.invokevirtual 392, 3) := dk_182 1 136 (dk_at dksX2_about_2 3 rfl rfl)
theorem dX2_about_53 : decode cX2_about 53 = .ok (.ireturn, 1) := dk_172 (dk_at dksX2_about_2 6 rfl rfl)
theorem dX2_about_54 : decode cX2_about 54 = .ok (.iload_n 1, 1) := dk_27 (dk_at dksX2_about_2 7 rfl rfl)
theorem dX2_about_55 : decode cX2_about 55 = .ok (.tableswitch 65 0 9 #[53, 53, 53, 53, 53, 53, 53, 53, 53, 60], 53) := by decide +kernel
theorem dX2_about_108 : decode cX2_about 108 = .ok (.aload_n 0, 1) := dk_42 (dk_at dksX2_about_4 0 rfl rfl)
theorem dX2_about_109 : decode cX2_about 109 = .ok (.getfield 7, 3) := dk_180 0 7 (dk_at dksX2_about_4 1 rfl rfl)
theorem dX2_about_112 : decode cX2_about 112 = .ok (.iload_n 1, 1) := dk_27 (dk_at dksX2_about_4 4 rfl rfl)
theorem dX2_about_113 : decode cX2_about 113 = .ok (.iaload, 1) := dk_46 (dk_at dksX2_about_4 5 rfl rfl)
theorem dX2_about_114 : decode cX2_about 114 = .ok (.ireturn, 1) := dk_172 (dk_at dksX2_about_4 6 rfl rfl)
theorem dX2_about_115 : decode cX2_about 115 = .ok (.aload_n 0, 1) := dk_42 (dk_at dksX2_about_4 7 rfl rfl)
theorem dX2_about_116 : decode cX2_about 116 = .ok (.getfield 114, 3) := dk_180 0 114 (dk_at dksX2_about_4 8 rfl rfl)
theorem dX2_about_119 : decode cX2_about 119 = .ok (.ireturn, 1) := dk_172 (dk_at dksX2_about_4 11 rfl rfl)
theorem dX2_about_120 : decode cX2_about 120 = .ok (.bipush (-2), 2) := dk_16 254 (dk_at dksX2_about_4 12 rfl rfl)
theorem dX2_about_122 : decode cX2_about 122 = .ok (.ireturn, 1) := dk_172 (dk_at dksX2_about_4 14 rfl rfl)
def dkwX2_bonesAt_1 : List UInt8 := [96, 46, 27, 160, 0, 7, 4, 167, 0, 4, 3, 96, 61, 132, 3, 1, 167, 255, 220, 28, 172]
abbrev dktX2_bonesAt_1 : List UInt8 := dkwX2_bonesAt_1 ++ []
def dkwX2_bonesAt_0 : List UInt8 := [3, 61, 3, 62, 29, 42, 180, 0, 7, 4, 46, 162, 0, 32, 28, 42, 180, 0, 7, 29, 184, 0, 87, 6]
abbrev dktX2_bonesAt_0 : List UInt8 := dkwX2_bonesAt_0 ++ dktX2_bonesAt_1
theorem dksX2_bonesAt_0 : cX2_bonesAt.data.toList.drop 0 = dktX2_bonesAt_0 := by decide +kernel
theorem dksX2_bonesAt_1 : cX2_bonesAt.data.toList.drop 24 = dktX2_bonesAt_1 := dk_seg dksX2_bonesAt_0 24 rfl rfl
theorem dX2_bonesAt_0 : decode cX2_bonesAt 0 = .ok (.iconst 0, 1) := dk_3 (dk_at dksX2_bonesAt_0 0 rfl rfl)
theorem dX2_bonesAt_1 : decode cX2_bonesAt 1 = .ok (.istore_n 2, 1) := dk_61 (dk_at dksX2_bonesAt_0 1 rfl rfl)
theorem dX2_bonesAt_2 : decode cX2_bonesAt 2 = .ok (.iconst 0, 1) := dk_3 (dk_at dksX2_bonesAt_0 2 rfl rfl)
theorem dX2_bonesAt_3 : decode cX2_bonesAt 3 = .ok (.istore_n 3, 1) := dk_62 (dk_at dksX2_bonesAt_0 3 rfl rfl)
theorem dX2_bonesAt_4 : decode cX2_bonesAt 4 = .ok (.iload_n 3, 1) := dk_29 (dk_at dksX2_bonesAt_0 4 rfl rfl)
theorem dX2_bonesAt_5 : decode cX2_bonesAt 5 = .ok (.aload_n 0, 1) := dk_42 (dk_at dksX2_bonesAt_0 5 rfl rfl)
theorem dX2_bonesAt_6 : decode cX2_bonesAt 6 = .ok (.getfield 7, 3) := dk_180 0 7 (dk_at dksX2_bonesAt_0 6 rfl rfl)
theorem dX2_bonesAt_9 : decode cX2_bonesAt 9 = .ok (.iconst 1, 1) := dk_4 (dk_at dksX2_bonesAt_0 9 rfl rfl)
theorem dX2_bonesAt_10 : decode cX2_bonesAt 10 = .ok (.iaload, 1) := dk_46 (dk_at dksX2_bonesAt_0 10 rfl rfl)
theorem dX2_bonesAt_11 : decode cX2_bonesAt 11 = .ok (.if_icmp .ge 32, 3) := dk_162 0 32 (dk_at dksX2_bonesAt_0 11 rfl rfl)
theorem dX2_bonesAt_14 : decode cX2_bonesAt 14 = .ok (.iload_n 2, 1) := dk_28 (dk_at dksX2_bonesAt_0 14 rfl rfl)
theorem dX2_bonesAt_15 : decode cX2_bonesAt 15 = .ok (.aload_n 0, 1) := dk_42 (dk_at dksX2_bonesAt_0 15 rfl rfl)
theorem dX2_bonesAt_16 : decode cX2_bonesAt 16 = .ok (.getfield 7, 3) := dk_180 0 7 (dk_at dksX2_bonesAt_0 16 rfl rfl)
theorem dX2_bonesAt_19 : decode cX2_bonesAt 19 = .ok (.iload_n 3, 1) := dk_29 (dk_at dksX2_bonesAt_0 19 rfl rfl)
theorem dX2_bonesAt_20 : decode cX2_bonesAt 20 = .ok (.invokestatic 87, 3) := dk_184 0 87 (dk_at dksX2_bonesAt_0 20 rfl rfl)
theorem dX2_bonesAt_23 : decode cX2_bonesAt 23 = .ok (.iconst 3, 1) := dk_6 (dk_at dksX2_bonesAt_0 23 rfl rfl)
theorem dX2_bonesAt_24 : decode cX2_bonesAt 24 = .ok (.iadd, 1) := dk_96 (dk_at dksX2_bonesAt_1 0 rfl rfl)
theorem dX2_bonesAt_25 : decode cX2_bonesAt 25 = .ok (.iaload, 1) := dk_46 (dk_at dksX2_bonesAt_1 1 rfl rfl)
theorem dX2_bonesAt_26 : decode cX2_bonesAt 26 = .ok (.iload_n 1, 1) := dk_27 (dk_at dksX2_bonesAt_1 2 rfl rfl)
theorem dX2_bonesAt_27 : decode cX2_bonesAt 27 = .ok (.if_icmp .ne 7, 3) := dk_160 0 7 (dk_at dksX2_bonesAt_1 3 rfl rfl)
theorem dX2_bonesAt_30 : decode cX2_bonesAt 30 = .ok (.iconst 1, 1) := dk_4 (dk_at dksX2_bonesAt_1 6 rfl rfl)
theorem dX2_bonesAt_31 : decode cX2_bonesAt 31 = .ok (.goto 4, 3) := dk_167 0 4 (dk_at dksX2_bonesAt_1 7 rfl rfl)
theorem dX2_bonesAt_34 : decode cX2_bonesAt 34 = .ok (.iconst 0, 1) := dk_3 (dk_at dksX2_bonesAt_1 10 rfl rfl)
theorem dX2_bonesAt_35 : decode cX2_bonesAt 35 = .ok (.iadd, 1) := dk_96 (dk_at dksX2_bonesAt_1 11 rfl rfl)
theorem dX2_bonesAt_36 : decode cX2_bonesAt 36 = .ok (.istore_n 2, 1) := dk_61 (dk_at dksX2_bonesAt_1 12 rfl rfl)
theorem dX2_bonesAt_37 : decode cX2_bonesAt 37 = .ok (.iinc 3 1, 3) := dk_132 3 1 (dk_at dksX2_bonesAt_1 13 rfl rfl)
theorem dX2_bonesAt_40 : decode cX2_bonesAt 40 = .ok (.goto (-36), 3) := dk_167 255 220 (dk_at dksX2_bonesAt_1 16 rfl rfl)
theorem dX2_bonesAt_43 : decode cX2_bonesAt 43 = .ok (.iload_n 2, 1) := dk_28 (dk_at dksX2_bonesAt_1 19 rfl rfl)
theorem dX2_bonesAt_44 : decode cX2_bonesAt 44 = .ok (.ireturn, 1) := dk_172 (dk_at dksX2_bonesAt_1 20 rfl rfl)
