set_option maxRecDepth 100000
def dkwX2_asks_5 : List UInt8 := [132, 4, 1, 167, 255, 240, 3, 172]
abbrev dktX2_asks_5 : List UInt8 := dkwX2_asks_5 ++ []
def dkwX2_asks_4 : List UInt8 := [180, 0, 167, 27, 100, 181, 0, 167, 3, 54, 4, 21, 4, 27, 162, 0, 16, 42, 16, 20, 3, 182, 0, 170]
abbrev dktX2_asks_4 : List UInt8 := dkwX2_asks_4 ++ dktX2_asks_5
def dkwX2_asks_3 : List UInt8 := [172, 42, 182, 0, 184, 42, 182, 0, 220, 61, 28, 153, 0, 5, 28, 172, 42, 29, 3, 182, 0, 170, 42, 89]
abbrev dktX2_asks_3 : List UInt8 := dkwX2_asks_3 ++ dktX2_asks_4
def dkwX2_asks_2 : List UInt8 := [167, 255, 212, 42, 182, 0, 220, 61, 28, 153, 0, 5, 28, 172, 42, 182, 0, 223, 62, 29, 156, 0, 5, 4]
abbrev dktX2_asks_2 : List UInt8 := dkwX2_asks_2 ++ dktX2_asks_3
def dkwX2_asks_1 : List UInt8 := [160, 0, 5, 6, 172, 42, 89, 180, 0, 167, 4, 96, 181, 0, 167, 132, 1, 1, 42, 182, 0, 184]
abbrev dktX2_asks_1 : List UInt8 := dkwX2_asks_1 ++ dktX2_asks_2
def dkwX2_asks_0 : List UInt8 := [3, 60, 42, 16, 110, 16, 111, 16, 116, 184, 0, 146, 182, 0, 216, 153, 0, 34, 42, 180, 0, 167, 16, 8]
abbrev dktX2_asks_0 : List UInt8 := dkwX2_asks_0 ++ dktX2_asks_1
theorem dksX2_asks_0 : cX2_asks.data.toList.drop 0 = dktX2_asks_0 := by decide +kernel
theorem dksX2_asks_1 : cX2_asks.data.toList.drop 24 = dktX2_asks_1 := dk_seg dksX2_asks_0 24 rfl rfl
theorem dksX2_asks_2 : cX2_asks.data.toList.drop 46 = dktX2_asks_2 := dk_seg dksX2_asks_1 22 rfl rfl
theorem dksX2_asks_3 : cX2_asks.data.toList.drop 70 = dktX2_asks_3 := dk_seg dksX2_asks_2 24 rfl rfl
theorem dksX2_asks_4 : cX2_asks.data.toList.drop 94 = dktX2_asks_4 := dk_seg dksX2_asks_3 24 rfl rfl
theorem dksX2_asks_5 : cX2_asks.data.toList.drop 118 = dktX2_asks_5 := dk_seg dksX2_asks_4 24 rfl rfl
theorem dX2_asks_0 : decode cX2_asks 0 = .ok (.iconst 0, 1) := dk_3 (dk_at dksX2_asks_0 0 rfl rfl)
theorem dX2_asks_1 : decode cX2_asks 1 = .ok (.istore_n 1, 1) := dk_60 (dk_at dksX2_asks_0 1 rfl rfl)
theorem dX2_asks_2 : decode cX2_asks 2 = .ok (.aload_n 0, 1) := dk_42 (dk_at dksX2_asks_0 2 rfl rfl)
theorem dX2_asks_3 : decode cX2_asks 3 = .ok (.bipush 110, 2) := dk_16 110 (dk_at dksX2_asks_0 3 rfl rfl)
theorem dX2_asks_5 : decode cX2_asks 5 = .ok (.bipush 111, 2) := dk_16 111 (dk_at dksX2_asks_0 5 rfl rfl)
theorem dX2_asks_7 : decode cX2_asks 7 = .ok (.bipush 116, 2) := dk_16 116 (dk_at dksX2_asks_0 7 rfl rfl)
theorem dX2_asks_9 : decode cX2_asks 9 = .ok (.invokestatic 146, 3) := dk_184 0 146 (dk_at dksX2_asks_0 9 rfl rfl)
theorem dX2_asks_12 : decode cX2_asks 12 = .ok (.invokevirtual 216, 3) := dk_182 0 216 (dk_at dksX2_asks_0 12 rfl rfl)
theorem dX2_asks_15 : decode cX2_asks 15 = .ok (.ifCond .eq 34, 3) := dk_153 0 34 (dk_at dksX2_asks_0 15 rfl rfl)
theorem dX2_asks_18 : decode cX2_asks 18 = .ok (.aload_n 0, 1) := dk_42 (dk_at dksX2_asks_0 18 rfl rfl)
theorem dX2_asks_19 : decode cX2_asks 19 = .ok (.getfield 167, 3) := dk_180 0 167 (dk_at dksX2_asks_0 19 rfl rfl)
theorem dX2_asks_22 : decode cX2_asks 22 = .ok (.bipush 8, 2) := dk_16 8 (dk_at dksX2_asks_0 22 rfl rfl)
theorem dX2_asks_24 : decode cX2_asks 24 = .ok (.if_icmp .ne 5, 3) := dk_160 0 5 (dk_at dksX2_asks_1 0 rfl rfl)
theorem dX2_asks_27 : decode cX2_asks 27 = .ok (.iconst 3, 1) := dk_6 (dk_at dksX2_asks_1 3 rfl rfl)
theorem dX2_asks_28 : decode cX2_asks 28 = .ok (.ireturn, 1) := dk_172 (dk_at dksX2_asks_1 4 rfl rfl)
theorem dX2_asks_29 : decode cX2_asks 29 = .ok (.aload_n 0, 1) := dk_42 (dk_at dksX2_asks_1 5 rfl rfl)
theorem dX2_asks_30 : decode cX2_asks 30 = .ok (.dup, 1) := dk_89 (dk_at dksX2_asks_1 6 rfl rfl)
theorem dX2_asks_31 : decode cX2_asks 31 = .ok (.getfield 167, 3) := dk_180 0 167 (dk_at dksX2_asks_1 7 rfl rfl)
theorem dX2_asks_34 : decode cX2_asks 34 = .ok (.iconst 1, 1) := dk_4 (dk_at dksX2_asks_1 10 rfl rfl)
theorem dX2_asks_35 : decode cX2_asks 35 = .ok (.iadd, 1) := dk_96 (dk_at dksX2_asks_1 11 rfl rfl)
theorem dX2_asks_36 : decode cX2_asks 36 = .ok (.putfield 167, 3) := dk_181 0 167 (dk_at dksX2_asks_1 12 rfl rfl)
theorem dX2_asks_39 : decode cX2_asks 39 = .ok (.iinc 1 1, 3) := dk_132 1 1 (dk_at dksX2_asks_1 15 rfl rfl)
theorem dX2_asks_42 : decode cX2_asks 42 = .ok (.aload_n 0, 1) := dk_42 (dk_at dksX2_asks_1 18 rfl rfl)
theorem dX2_asks_43 : decode cX2_asks 43 = .ok (.invokevirtual 184, 3) := dk_182 0 184 (dk_at dksX2_asks_1 19 rfl rfl)
theorem dX2_asks_46 : decode cX2_asks 46 = .ok (.goto (-44), 3) := dk_167 255 212 (dk_at dksX2_asks_2 0 rfl rfl)
theorem dX2_asks_49 : decode cX2_asks 49 = .ok (.aload_n 0, 1) := dk_42 (dk_at dksX2_asks_2 3 rfl rfl)
theorem dX2_asks_50 : decode cX2_asks 50 = .ok (.invokevirtual 220, 3) := dk_182 0 220 (dk_at dksX2_asks_2 4 rfl rfl)
theorem dX2_asks_53 : decode cX2_asks 53 = .ok (.istore_n 2, 1) := dk_61 (dk_at dksX2_asks_2 7 rfl rfl)
theorem dX2_asks_54 : decode cX2_asks 54 = .ok (.iload_n 2, 1) := dk_28 (dk_at dksX2_asks_2 8 rfl rfl)
theorem dX2_asks_55 : decode cX2_asks 55 = .ok (.ifCond .eq 5, 3) := dk_153 0 5 (dk_at dksX2_asks_2 9 rfl rfl)
theorem dX2_asks_58 : decode cX2_asks 58 = .ok (.iload_n 2, 1) := dk_28 (dk_at dksX2_asks_2 12 rfl rfl)
theorem dX2_asks_59 : decode cX2_asks 59 = .ok (.ireturn, 1) := dk_172 (dk_at dksX2_asks_2 13 rfl rfl)
theorem dX2_asks_60 : decode cX2_asks 60 = .ok (.aload_n 0, 1) := dk_42 (dk_at dksX2_asks_2 14 rfl rfl)
theorem dX2_asks_61 : decode cX2_asks 61 = .ok (.invokevirtual 223, 3) := dk_182 0 223 (dk_at dksX2_asks_2 15 rfl rfl)
theorem dX2_asks_64 : decode cX2_asks 64 = .ok (.istore_n 3, 1) := dk_62 (dk_at dksX2_asks_2 18 rfl rfl)
theorem dX2_asks_65 : decode cX2_asks 65 = .ok (.iload_n 3, 1) := dk_29 (dk_at dksX2_asks_2 19 rfl rfl)
theorem dX2_asks_66 : decode cX2_asks 66 = .ok (.ifCond .ge 5, 3) := dk_156 0 5 (dk_at dksX2_asks_2 20 rfl rfl)
theorem dX2_asks_69 : decode cX2_asks 69 = .ok (.iconst 1, 1) := dk_4 (dk_at dksX2_asks_2 23 rfl rfl)
theorem dX2_asks_70 : decode cX2_asks 70 = .ok (.ireturn, 1) := dk_172 (dk_at dksX2_asks_3 0 rfl rfl)
theorem dX2_asks_71 : decode cX2_asks 71 = .ok (.aload_n 0, 1) := dk_42 (dk_at dksX2_asks_3 1 rfl rfl)
theorem dX2_asks_72 : decode cX2_asks 72 = .ok (.invokevirtual 184, 3) := dk_182 0 184 (dk_at dksX2_asks_3 2 rfl rfl)
theorem dX2_asks_75 : decode cX2_asks 75 = .ok (.aload_n 0, 1) := dk_42 (dk_at dksX2_asks_3 5 rfl rfl)
theorem dX2_asks_76 : decode cX2_asks 76 = .ok (.invokevirtual 220, 3) := dk_182 0 220 (dk_at dksX2_asks_3 6 rfl rfl)
theorem dX2_asks_79 : decode cX2_asks 79 = .ok (.istore_n 2, 1) := dk_61 (dk_at dksX2_asks_3 9 rfl rfl)
theorem dX2_asks_80 : decode cX2_asks 80 = .ok (.iload_n 2, 1) := dk_28 (dk_at dksX2_asks_3 10 rfl rfl)
theorem dX2_asks_81 : decode cX2_asks 81 = .ok (.ifCond .eq 5, 3) := dk_153 0 5 (dk_at dksX2_asks_3 11 rfl rfl)
theorem dX2_asks_84 : decode cX2_asks 84 = .ok (.iload_n 2, 1) := dk_28 (dk_at dksX2_asks_3 14 rfl rfl)
theorem dX2_asks_85 : decode cX2_asks 85 = .ok (.ireturn, 1) := dk_172 (dk_at dksX2_asks_3 15 rfl rfl)
theorem dX2_asks_86 : decode cX2_asks 86 = .ok (.aload_n 0, 1) := dk_42 (dk_at dksX2_asks_3 16 rfl rfl)
theorem dX2_asks_87 : decode cX2_asks 87 = .ok (.iload_n 3, 1) := dk_29 (dk_at dksX2_asks_3 17 rfl rfl)
theorem dX2_asks_88 : decode cX2_asks 88 = .ok (.iconst 0, 1) := dk_3 (dk_at dksX2_asks_3 18 rfl rfl)
theorem dX2_asks_89 : decode cX2_asks 89 = .ok (.invokevirtual 170, 3) := dk_182 0 170 (dk_at dksX2_asks_3 19 rfl rfl)
theorem dX2_asks_92 : decode cX2_asks 92 = .ok (.aload_n 0, 1) := dk_42 (dk_at dksX2_asks_3 22 rfl rfl)
theorem dX2_asks_93 : decode cX2_asks 93 = .ok (.dup, 1) := dk_89 (dk_at dksX2_asks_3 23 rfl rfl)
theorem dX2_asks_94 : decode cX2_asks 94 = .ok (.getfield 167, 3) := dk_180 0 167 (dk_at dksX2_asks_4 0 rfl rfl)
theorem dX2_asks_97 : decode cX2_asks 97 = .ok (.iload_n 1, 1) := dk_27 (dk_at dksX2_asks_4 3 rfl rfl)
theorem dX2_asks_98 : decode cX2_asks 98 = .ok (.isub, 1) := dk_100 (dk_at dksX2_asks_4 4 rfl rfl)
theorem dX2_asks_99 : decode cX2_asks 99 = .ok (.putfield 167, 3) := dk_181 0 167 (dk_at dksX2_asks_4 5 rfl rfl)
theorem dX2_asks_102 : decode cX2_asks 102 = .ok (.iconst 0, 1) := dk_3 (dk_at dksX2_asks_4 8 rfl rfl)
theorem dX2_asks_103 : decode cX2_asks 103 = .ok (.istore 4, 2) := dk_54 4 (dk_at dksX2_asks_4 9 rfl rfl)
theorem dX2_asks_105 : decode cX2_asks 105 = .ok (.iload 4, 2) := dk_21 4 (dk_at dksX2_asks_4 11 rfl rfl)
theorem dX2_asks_107 : decode cX2_asks 107 = .ok (.iload_n 1, 1) := dk_27 (dk_at dksX2_asks_4 13 rfl rfl)
theorem dX2_asks_108 : decode cX2_asks 108 = .ok (.if_icmp .ge 16, 3) := dk_162 0 16 (dk_at dksX2_asks_4 14 rfl rfl)
theorem dX2_asks_111 : decode cX2_asks 111 = .ok (.aload_n 0, 1) := dk_42 (dk_at dksX2_asks_4 17 rfl rfl)
theorem dX2_asks_112 : decode cX2_asks 112 = .ok (.bipush 20, 2) := dk_16 20 (dk_at dksX2_asks_4 18 rfl rfl)
theorem dX2_asks_114 : decode cX2_asks 114 = .ok (.iconst 0, 1) := dk_3 (dk_at dksX2_asks_4 20 rfl rfl)
theorem dX2_asks_115 : decode cX2_asks 115 = .ok (.invokevirtual 170, 3) := dk_182 0 170 (dk_at dksX2_asks_4 21 rfl rfl)
theorem dX2_asks_118 : decode cX2_asks 118 = .ok (.iinc 4 1, 3) := dk_132 4 1 (dk_at dksX2_asks_5 0 rfl rfl)
theorem dX2_asks_121 : decode cX2_asks 121 = .ok (.goto (-16), 3) := dk_167 255 240 (dk_at dksX2_asks_5 3 rfl rfl)
theorem dX2_asks_124 : decode cX2_asks 124 = .ok (.iconst 0, 1) := dk_3 (dk_at dksX2_asks_5 6 rfl rfl)
theorem dX2_asks_125 : decode cX2_asks 125 = .ok (.ireturn, 1) := dk_172 (dk_at dksX2_asks_5 7 rfl rfl)
def dkwX2_compareOf_3 : List UInt8 := [180, 0, 129, 16, 35, 160, 0, 8, 16, 15, 167, 0, 4, 2, 172]
abbrev dktX2_compareOf_3 : List UInt8 := dkwX2_compareOf_3 ++ []
def dkwX2_compareOf_2 : List UInt8 := [160, 0, 8, 16, 13, 167, 0, 32, 42, 180, 0, 129, 16, 61, 160, 0, 8, 16, 14, 167, 0, 18, 42]
abbrev dktX2_compareOf_2 : List UInt8 := dkwX2_compareOf_2 ++ dktX2_compareOf_3
def dkwX2_compareOf_1 : List UInt8 := [167, 0, 59, 42, 180, 0, 129, 16, 62, 160, 0, 8, 16, 12, 167, 0, 45, 42, 180, 0, 129, 8]
abbrev dktX2_compareOf_1 : List UInt8 := dkwX2_compareOf_1 ++ dktX2_compareOf_2
def dkwX2_compareOf_0 : List UInt8 := [42, 180, 0, 129, 16, 60, 160, 0, 8, 16, 10, 167, 0, 72, 42, 180, 0, 129, 7, 160, 0, 8, 16, 11]
abbrev dktX2_compareOf_0 : List UInt8 := dkwX2_compareOf_0 ++ dktX2_compareOf_1
theorem dksX2_compareOf_0 : cX2_compareOf.data.toList.drop 0 = dktX2_compareOf_0 := by decide +kernel
theorem dksX2_compareOf_1 : cX2_compareOf.data.toList.drop 24 = dktX2_compareOf_1 := dk_seg dksX2_compareOf_0 24 rfl rfl
theorem dksX2_compareOf_2 : cX2_compareOf.data.toList.drop 46 = dktX2_compareOf_2 := dk_seg dksX2_compareOf_1 22 rfl rfl
theorem dksX2_compareOf_3 : cX2_compareOf.data.toList.drop 69 = dktX2_compareOf_3 := dk_seg dksX2_compareOf_2 23 rfl rfl
theorem dX2_compareOf_0 : decode cX2_compareOf 0 = .ok (.aload_n 0, 1) := dk_42 (dk_at dksX2_compareOf_0 0 rfl rfl)
theorem dX2_compareOf_1 : decode cX2_compareOf 1 = .ok (.getfield 129, 3) := dk_180 0 129 (dk_at dksX2_compareOf_0 1 rfl rfl)
theorem dX2_compareOf_4 : decode cX2_compareOf 4 = .ok (.bipush 60, 2) := dk_16 60 (dk_at dksX2_compareOf_0 4 rfl rfl)
theorem dX2_compareOf_6 : decode cX2_compareOf 6 = .ok (.if_icmp .ne 8, 3) := dk_160 0 8 (dk_at dksX2_compareOf_0 6 rfl rfl)
theorem dX2_compareOf_9 : decode cX2_compareOf 9 = .ok (.bipush 10, 2) := dk_16 10 (dk_at dksX2_compareOf_0 9 rfl rfl)
theorem dX2_compareOf_11 : decode cX2_compareOf 11 = .ok (.goto 72, 3) := dk_167 0 72 (dk_at dksX2_compareOf_0 11 rfl rfl)
theorem dX2_compareOf_14 : decode cX2_compareOf 14 = .ok (.aload_n 0, 1) := dk_42 (dk_at dksX2_compareOf_0 14 rfl rfl)
theorem dX2_compareOf_15 : decode cX2_compareOf 15 = .ok (.getfield 129, 3) := dk_180 0 129 (dk_at dksX2_compareOf_0 15 rfl rfl)
theorem dX2_compareOf_18 : decode cX2_compareOf 18 = .ok (.iconst 4, 1) := dk_7 (dk_at dksX2_compareOf_0 18 rfl rfl)
theorem dX2_compareOf_19 : decode cX2_compareOf 19 = .ok (.if_icmp .ne 8, 3) := dk_160 0 8 (dk_at dksX2_compareOf_0 19 rfl rfl)
theorem dX2_compareOf_22 : decode cX2_compareOf 22 = .ok (.bipush 11, 2) := dk_16 11 (dk_at dksX2_compareOf_0 22 rfl rfl)
theorem dX2_compareOf_24 : decode cX2_compareOf 24 = .ok (.goto 59, 3) := dk_167 0 59 (dk_at dksX2_compareOf_1 0 rfl rfl)
theorem dX2_compareOf_27 : decode cX2_compareOf 27 = .ok (.aload_n 0, 1) := dk_42 (dk_at dksX2_compareOf_1 3 rfl rfl)
theorem dX2_compareOf_28 : decode cX2_compareOf 28 = .ok (.getfield 129, 3) := dk_180 0 129 (dk_at dksX2_compareOf_1 4 rfl rfl)
theorem dX2_compareOf_31 : decode cX2_compareOf 31 = .ok (.bipush 62, 2) := dk_16 62 (dk_at dksX2_compareOf_1 7 rfl rfl)
theorem dX2_compareOf_33 : decode cX2_compareOf 33 = .ok (.if_icmp .ne 8, 3) := dk_160 0 8 (dk_at dksX2_compareOf_1 9 rfl rfl)
theorem dX2_compareOf_36 : decode cX2_compareOf 36 = .ok (.bipush 12, 2) := dk_16 12 (dk_at dksX2_compareOf_1 12 rfl rfl)
theorem dX2_compareOf_38 : decode cX2_compareOf 38 = .ok (.goto 45, 3) := dk_167 0 45 (dk_at dksX2_compareOf_1 14 rfl rfl)
theorem dX2_compareOf_41 : decode cX2_compareOf 41 = .ok (.aload_n 0, 1) := dk_42 (dk_at dksX2_compareOf_1 17 rfl rfl)
theorem dX2_compareOf_42 : decode cX2_compareOf 42 = .ok (.getfield 129, 3) := dk_180 0 129 (dk_at dksX2_compareOf_1 18 rfl rfl)
theorem dX2_compareOf_45 : decode cX2_compareOf 45 = .ok (.iconst 5, 1) := dk_8 (dk_at dksX2_compareOf_1 21 rfl rfl)
theorem dX2_compareOf_46 : decode cX2_compareOf 46 = .ok (.if_icmp .ne 8, 3) := dk_160 0 8 (dk_at dksX2_compareOf_2 0 rfl rfl)
theorem dX2_compareOf_49 : decode cX2_compareOf 49 = .ok (.bipush 13, 2) := dk_16 13 (dk_at dksX2_compareOf_2 3 rfl rfl)
theorem dX2_compareOf_51 : decode cX2_compareOf 51 = .ok (.goto 32, 3) := dk_167 0 32 (dk_at dksX2_compareOf_2 5 rfl rfl)
theorem dX2_compareOf_54 : decode cX2_compareOf 54 = .ok (.aload_n 0, 1) := dk_42 (dk_at dksX2_compareOf_2 8 rfl rfl)
theorem dX2_compareOf_55 : decode cX2_compareOf 55 = .ok (.getfield 129, 3) := dk_180 0 129 (dk_at dksX2_compareOf_2 9 rfl rfl)
theorem dX2_compareOf_58 : decode cX2_compareOf 58 = .ok (.bipush 61, 2) := dk_16 61 (dk_at dksX2_compareOf_2 12 rfl rfl)
theorem dX2_compareOf_60 : decode cX2_compareOf 60 = .ok (.if_icmp .ne 8, 3) := dk_160 0 8 (dk_at dksX2_compareOf_2 14 rfl rfl)
theorem dX2_compareOf_63 : decode cX2_compareOf 63 = .ok (.bipush 14, 2) := dk_16 14 (dk_at dksX2_compareOf_2 17 rfl rfl)
theorem dX2_compareOf_65 : decode cX2_compareOf 65 = .ok (.goto 18, 3) := dk_167 0 18 (dk_at dksX2_compareOf_2 19 rfl rfl)
theorem dX2_compareOf_68 : decode cX2_compareOf 68 = .ok (.aload_n 0, 1) := dk_42 (dk_at dksX2_compareOf_2 22 rfl rfl)
theorem dX2_compareOf_69 : decode cX2_compareOf 69 = .ok (.getfield 129, 3) := dk_180 0 129 (dk_at dksX2_compareOf_3 0 rfl rfl)
theorem dX2_compareOf_72 : decode cX2_compareOf 72 = .ok (.bipush 35, 2) := dk_16 35 (dk_at dksX2_compareOf_3 3 rfl rfl)
theorem dX2_compareOf_74 : decode cX2_compareOf 74 = .ok (.if_icmp .ne 8, 3) := dk_160 0 8 (dk_at dksX2_compareOf_3 5 rfl rfl)
theorem dX2_compareOf_77 : decode cX2_compareOf 77 = .ok (.bipush 15, 2) := dk_16 15 (dk_at dksX2_compareOf_3 8 rfl rfl)
theorem dX2_compareOf_79 : decode cX2_compareOf 79 = .ok (.goto 4, 3) := dk_167 0 4 (dk_at dksX2_compareOf_3 10 rfl rfl)
theorem dX2_compareOf_82 : decode cX2_compareOf 82 = .ok (.iconst (-1), 1) := dk_2 (dk_at dksX2_compareOf_3 13 rfl rfl)
theorem dX2_compareOf_83 : decode cX2_compareOf 83 = .ok (.ireturn, 1) := dk_172 (dk_at dksX2_compareOf_3 14 rfl rfl)
def dkwX2_fault_1 : List UInt8 := [172]
abbrev dktX2_fault_1 : List UInt8 := dkwX2_fault_1 ++ []
def dkwX2_fault_0 : List UInt8 := [27, 154, 0, 10, 42, 180, 0, 22, 167, 0, 16, 27, 4, 160, 0, 10, 42, 180, 0, 26, 167, 0, 4, 2]
abbrev dktX2_fault_0 : List UInt8 := dkwX2_fault_0 ++ dktX2_fault_1
theorem dksX2_fault_0 : cX2_fault.data.toList.drop 0 = dktX2_fault_0 := by decide +kernel
theorem dksX2_fault_1 : cX2_fault.data.toList.drop 24 = dktX2_fault_1 := dk_seg dksX2_fault_0 24 rfl rfl
theorem dX2_fault_0 : decode cX2_fault 0 = .ok (.iload_n 1, 1) := dk_27 (dk_at dksX2_fault_0 0 rfl rfl)
theorem dX2_fault_1 : decode cX2_fault 1 = .ok (.ifCond .ne 10, 3) := dk_154 0 10 (dk_at dksX2_fault_0 1 rfl rfl)
theorem dX2_fault_4 : decode cX2_fault 4 = .ok (.aload_n 0, 1) := dk_42 (dk_at dksX2_fault_0 4 rfl rfl)
theorem dX2_fault_5 : decode cX2_fault 5 = .ok (.getfield 22, 3) := dk_180 0 22 (dk_at dksX2_fault_0 5 rfl rfl)
theorem dX2_fault_8 : decode cX2_fault 8 = .ok (.goto 16, 3) := dk_167 0 16 (dk_at dksX2_fault_0 8 rfl rfl)
theorem dX2_fault_11 : decode cX2_fault 11 = .ok (.iload_n 1, 1) := dk_27 (dk_at dksX2_fault_0 11 rfl rfl)
theorem dX2_fault_12 : decode cX2_fault 12 = .ok (.iconst 1, 1) := dk_4 (dk_at dksX2_fault_0 12 rfl rfl)
theorem dX2_fault_13 : decode cX2_fault 13 = .ok (.if_icmp .ne 10, 3) := dk_160 0 10 (dk_at dksX2_fault_0 13 rfl rfl)
theorem dX2_fault_16 : decode cX2_fault 16 = .ok (.aload_n 0, 1) := dk_42 (dk_at dksX2_fault_0 16 rfl rfl)
theorem dX2_fault_17 : decode cX2_fault 17 = .ok (.getfield 26, 3) := dk_180 0 26 (dk_at dksX2_fault_0 17 rfl rfl)
theorem dX2_fault_20 : decode cX2_fault 20 = .ok (.goto 4, 3) := dk_167 0 4 (dk_at dksX2_fault_0 20 rfl rfl)
theorem dX2_fault_23 : decode cX2_fault 23 = .ok (.iconst (-1), 1) := dk_2 (dk_at dksX2_fault_0 23 rfl rfl)
theorem dX2_fault_24 : decode cX2_fault 24 = .ok (.ireturn, 1) := dk_172 (dk_at dksX2_fault_1 0 rfl rfl)
def dkwX2_by_1 : List UInt8 := [79, 4, 172]
abbrev dktX2_by_1 : List UInt8 := dkwX2_by_1 ++ []
def dkwX2_by_0 : List UInt8 := [27, 2, 42, 180, 0, 7, 6, 46, 4, 100, 184, 0, 75, 154, 0, 5, 3, 172, 42, 180, 0, 7, 7, 27]
abbrev dktX2_by_0 : List UInt8 := dkwX2_by_0 ++ dktX2_by_1
theorem dksX2_by_0 : cX2_by.data.toList.drop 0 = dktX2_by_0 := by decide +kernel
theorem dksX2_by_1 : cX2_by.data.toList.drop 24 = dktX2_by_1 := dk_seg dksX2_by_0 24 rfl rfl
theorem dX2_by_0 : decode cX2_by 0 = .ok (.iload_n 1, 1) := dk_27 (dk_at dksX2_by_0 0 rfl rfl)
theorem dX2_by_1 : decode cX2_by 1 = .ok (.iconst (-1), 1) := dk_2 (dk_at dksX2_by_0 1 rfl rfl)
theorem dX2_by_2 : decode cX2_by 2 = .ok (.aload_n 0, 1) := dk_42 (dk_at dksX2_by_0 2 rfl rfl)
theorem dX2_by_3 : decode cX2_by 3 = .ok (.getfield 7, 3) := dk_180 0 7 (dk_at dksX2_by_0 3 rfl rfl)
theorem dX2_by_6 : decode cX2_by 6 = .ok (.iconst 3, 1) := dk_6 (dk_at dksX2_by_0 6 rfl rfl)
theorem dX2_by_7 : decode cX2_by 7 = .ok (.iaload, 1) := dk_46 (dk_at dksX2_by_0 7 rfl rfl)
theorem dX2_by_8 : decode cX2_by 8 = .ok (.iconst 1, 1) := dk_4 (dk_at dksX2_by_0 8 rfl rfl)
theorem dX2_by_9 : decode cX2_by 9 = .ok (.isub, 1) := dk_100 (dk_at dksX2_by_0 9 rfl rfl)
theorem dX2_by_10 : decode cX2_by 10 = .ok (.invokestatic 75, 3) := dk_184 0 75 (dk_at dksX2_by_0 10 rfl rfl)
theorem dX2_by_13 : decode cX2_by 13 = .ok (.ifCond .ne 5, 3) := dk_154 0 5 (dk_at dksX2_by_0 13 rfl rfl)
theorem dX2_by_16 : decode cX2_by 16 = .ok (.iconst 0, 1) := dk_3 (dk_at dksX2_by_0 16 rfl rfl)
theorem dX2_by_17 : decode cX2_by 17 = .ok (.ireturn, 1) := dk_172 (dk_at dksX2_by_0 17 rfl rfl)
theorem dX2_by_18 : decode cX2_by 18 = .ok (.aload_n 0, 1) := dk_42 (dk_at dksX2_by_0 18 rfl rfl)
theorem dX2_by_19 : decode cX2_by 19 = .ok (.getfield 7, 3) := dk_180 0 7 (dk_at dksX2_by_0 19 rfl rfl)
theorem dX2_by_22 : decode cX2_by 22 = .ok (.iconst 4, 1) := dk_7 (dk_at dksX2_by_0 22 rfl rfl)
theorem dX2_by_23 : decode cX2_by 23 = .ok (.iload_n 1, 1) := dk_27 (dk_at dksX2_by_0 23 rfl rfl)
theorem dX2_by_24 : decode cX2_by 24 = .ok (.iastore, 1) := dk_79 (dk_at dksX2_by_1 0 rfl rfl)
theorem dX2_by_25 : decode cX2_by 25 = .ok (.iconst 1, 1) := dk_4 (dk_at dksX2_by_1 1 rfl rfl)
theorem dX2_by_26 : decode cX2_by 26 = .ok (.ireturn, 1) := dk_172 (dk_at dksX2_by_1 2 rfl rfl)
def dkwX2_played_2 : List UInt8 := [182, 1, 28, 154, 0, 5, 28, 172, 132, 2, 1, 167, 255, 219, 2, 172]
abbrev dktX2_played_2 : List UInt8 := dkwX2_played_2 ++ []
def dkwX2_played_1 : List UInt8 := [180, 0, 16, 17, 2, 188, 27, 104, 46, 162, 0, 29, 42, 17, 2, 188, 27, 104, 4, 96, 7, 28, 104, 96]
abbrev dktX2_played_1 : List UInt8 := dkwX2_played_1 ++ dktX2_played_2
def dkwX2_played_0 : List UInt8 := [27, 3, 42, 180, 0, 7, 6, 46, 4, 100, 184, 0, 75, 154, 0, 6, 16, 254, 172, 3, 61, 28, 42]
abbrev dktX2_played_0 : List UInt8 := dkwX2_played_0 ++ dktX2_played_1
theorem dksX2_played_0 : cX2_played.data.toList.drop 0 = dktX2_played_0 := by decide +kernel
theorem dksX2_played_1 : cX2_played.data.toList.drop 23 = dktX2_played_1 := dk_seg dksX2_played_0 23 rfl rfl
theorem dksX2_played_2 : cX2_played.data.toList.drop 47 = dktX2_played_2 := dk_seg dksX2_played_1 24 rfl rfl
theorem dX2_played_0 : decode cX2_played 0 = .ok (.iload_n 1, 1) := dk_27 (dk_at dksX2_played_0 0 rfl rfl)
theorem dX2_played_1 : decode cX2_played 1 = .ok (.iconst 0, 1) := dk_3 (dk_at dksX2_played_0 1 rfl rfl)
theorem dX2_played_2 : decode cX2_played 2 = .ok (.aload_n 0, 1) := dk_42 (dk_at dksX2_played_0 2 rfl rfl)
theorem dX2_played_3 : decode cX2_played 3 = .ok (.getfield 7, 3) := dk_180 0 7 (dk_at dksX2_played_0 3 rfl rfl)
theorem dX2_played_6 : decode cX2_played 6 = .ok (.iconst 3, 1) := dk_6 (dk_at dksX2_played_0 6 rfl rfl)
theorem dX2_played_7 : decode cX2_played 7 = .ok (.iaload, 1) := dk_46 (dk_at dksX2_played_0 7 rfl rfl)
theorem dX2_played_8 : decode cX2_played 8 = .ok (.iconst 1, 1) := dk_4 (dk_at dksX2_played_0 8 rfl rfl)
theorem dX2_played_9 : decode cX2_played 9 = .ok (.isub, 1) := dk_100 (dk_at dksX2_played_0 9 rfl rfl)
theorem dX2_played_10 : decode cX2_played 10 = .ok (.invokestatic 75, 3) := dk_184 0 75 (dk_at dksX2_played_0 10 rfl rfl)
theorem dX2_played_13 : decode cX2_played 13 = .ok (.ifCond .ne 6, 3) := dk_154 0 6 (dk_at dksX2_played_0 13 rfl rfl)
theorem dX2_played_16 : decode cX2_played 16 = .ok (.bipush (-2), 2) := dk_16 254 (dk_at dksX2_played_0 16 rfl rfl)
theorem dX2_played_18 : decode cX2_played 18 = .ok (.ireturn, 1) := dk_172 (dk_at dksX2_played_0 18 rfl rfl)
theorem dX2_played_19 : decode cX2_played 19 = .ok (.iconst 0, 1) := dk_3 (dk_at dksX2_played_0 19 rfl rfl)
theorem dX2_played_20 : decode cX2_played 20 = .ok (.istore_n 2, 1) := dk_61 (dk_at dksX2_played_0 20 rfl rfl)
theorem dX2_played_21 : decode cX2_played 21 = .ok (.iload_n 2, 1) := dk_28 (dk_at dksX2_played_0 21 rfl rfl)
theorem dX2_played_22 : decode cX2_played 22 = .ok (.aload_n 0, 1) := dk_42 (dk_at dksX2_played_0 22 rfl rfl)
theorem dX2_played_23 : decode cX2_played 23 = .ok (.getfield 16, 3) := dk_180 0 16 (dk_at dksX2_played_1 0 rfl rfl)
theorem dX2_played_26 : decode cX2_played 26 = .ok (.sipush 700, 3) := dk_17 2 188 (dk_at dksX2_played_1 3 rfl rfl)
theorem dX2_played_29 : decode cX2_played 29 = .ok (.iload_n 1, 1) := dk_27 (dk_at dksX2_played_1 6 rfl rfl)
theorem dX2_played_30 : decode cX2_played 30 = .ok (.imul, 1) := dk_104 (dk_at dksX2_played_1 7 rfl rfl)
theorem dX2_played_31 : decode cX2_played 31 = .ok (.iaload, 1) := dk_46 (dk_at dksX2_played_1 8 rfl rfl)
theorem dX2_played_32 : decode cX2_played 32 = .ok (.if_icmp .ge 29, 3) := dk_162 0 29 (dk_at dksX2_played_1 9 rfl rfl)
theorem dX2_played_35 : decode cX2_played 35 = .ok (.aload_n 0, 1) := dk_42 (dk_at dksX2_played_1 12 rfl rfl)
theorem dX2_played_36 : decode cX2_played 36 = .ok (.sipush 700, 3) := dk_17 2 188 (dk_at dksX2_played_1 13 rfl rfl)
theorem dX2_played_39 : decode cX2_played 39 = .ok (.iload_n 1, 1) := dk_27 (dk_at dksX2_played_1 16 rfl rfl)
theorem dX2_played_40 : decode cX2_played 40 = .ok (.imul, 1) := dk_104 (dk_at dksX2_played_1 17 rfl rfl)
theorem dX2_played_41 : decode cX2_played 41 = .ok (.iconst 1, 1) := dk_4 (dk_at dksX2_played_1 18 rfl rfl)
theorem dX2_played_42 : decode cX2_played 42 = .ok (.iadd, 1) := dk_96 (dk_at dksX2_played_1 19 rfl rfl)
theorem dX2_played_43 : decode cX2_played 43 = .ok (.iconst 4, 1) := dk_7 (dk_at dksX2_played_1 20 rfl rfl)
theorem dX2_played_44 : decode cX2_played 44 = .ok (.iload_n 2, 1) := dk_28 (dk_at dksX2_played_1 21 rfl rfl)
theorem dX2_played_45 : decode cX2_played 45 = .ok (.imul, 1) := dk_104 (dk_at dksX2_played_1 22 rfl rfl)
theorem dX2_played_46 : decode cX2_played 46 = .ok (.iadd, 1) := dk_96 (dk_at dksX2_played_1 23 rfl rfl)
theorem dX2_played_47 : decode cX2_played 47 = .ok (.invokevirtual 284, 3) := dk_182 1 28 (dk_at dksX2_played_2 0 rfl rfl)
theorem dX2_played_50 : decode cX2_played 50 = .ok (.ifCond .ne 5, 3) := dk_154 0 5 (dk_at dksX2_played_2 3 rfl rfl)
theorem dX2_played_53 : decode cX2_played 53 = .ok (.iload_n 2, 1) := dk_28 (dk_at dksX2_played_2 6 rfl rfl)
theorem dX2_played_54 : decode cX2_played 54 = .ok (.ireturn, 1) := dk_172 (dk_at dksX2_played_2 7 rfl rfl)
theorem dX2_played_55 : decode cX2_played 55 = .ok (.iinc 2 1, 3) := dk_132 2 1 (dk_at dksX2_played_2 8 rfl rfl)
theorem dX2_played_58 : decode cX2_played 58 = .ok (.goto (-37), 3) := dk_167 255 219 (dk_at dksX2_played_2 11 rfl rfl)
theorem dX2_played_61 : decode cX2_played 61 = .ok (.iconst (-1), 1) := dk_2 (dk_at dksX2_played_2 14 rfl rfl)
theorem dX2_played_62 : decode cX2_played 62 = .ok (.ireturn, 1) := dk_172 (dk_at dksX2_played_2 15 rfl rfl)
def dkwX2_isPlayed_4 : List UInt8 := [167, 0, 4, 3, 172, 42, 28, 182, 1, 25, 155, 0, 7, 4, 167, 0, 4, 3, 172, 4, 172]
abbrev dktX2_isPlayed_4 : List UInt8 := dkwX2_isPlayed_4 ++ []
def dkwX2_isPlayed_3 : List UInt8 := [28, 29, 182, 1, 15, 172, 42, 28, 29, 182, 1, 19, 172, 42, 28, 182, 1, 22, 155, 0, 7, 4]
abbrev dktX2_isPlayed_3 : List UInt8 := dkwX2_isPlayed_3 ++ dktX2_isPlayed_4
def dkwX2_isPlayed_2 : List UInt8 := [42, 28, 29, 42, 180, 0, 16, 27, 6, 96, 46, 182, 1, 12, 155, 0, 7, 4, 167, 0, 4, 3, 172, 42]
abbrev dktX2_isPlayed_2 : List UInt8 := dkwX2_isPlayed_2 ++ dktX2_isPlayed_3
def dkwX2_isPlayed_1 : List UInt8 := [170, 0, 0, 0, 0, 0, 0, 101, 0, 0, 0, 4, 0, 0, 0, 8, 0, 0, 0, 36, 0, 0, 0, 59, 0, 0, 0, 66, 0, 0, 0, 73, 0, 0, 0, 87]
abbrev dktX2_isPlayed_1 : List UInt8 := dkwX2_isPlayed_1 ++ dktX2_isPlayed_2
def dkwX2_isPlayed_0 : List UInt8 := [42, 180, 0, 16, 27, 4, 96, 46, 61, 42, 180, 0, 16, 27, 5, 96, 46, 62, 42, 180, 0, 16, 27, 46]
abbrev dktX2_isPlayed_0 : List UInt8 := dkwX2_isPlayed_0 ++ dktX2_isPlayed_1
theorem dksX2_isPlayed_0 : cX2_isPlayed.data.toList.drop 0 = dktX2_isPlayed_0 := by decide +kernel
theorem dksX2_isPlayed_1 : cX2_isPlayed.data.toList.drop 24 = dktX2_isPlayed_1 := dk_seg dksX2_isPlayed_0 24 rfl rfl
theorem dksX2_isPlayed_2 : cX2_isPlayed.data.toList.drop 60 = dktX2_isPlayed_2 := dk_seg dksX2_isPlayed_1 36 rfl rfl
theorem dksX2_isPlayed_3 : cX2_isPlayed.data.toList.drop 84 = dktX2_isPlayed_3 := dk_seg dksX2_isPlayed_2 24 rfl rfl
theorem dksX2_isPlayed_4 : cX2_isPlayed.data.toList.drop 106 = dktX2_isPlayed_4 := dk_seg dksX2_isPlayed_3 22 rfl rfl
theorem dX2_isPlayed_0 : decode cX2_isPlayed 0 = .ok (.aload_n 0, 1) := dk_42 (dk_at dksX2_isPlayed_0 0 rfl rfl)
theorem dX2_isPlayed_1 : decode cX2_isPlayed 1 = .ok (.getfield 16, 3) := dk_180 0 16 (dk_at dksX2_isPlayed_0 1 rfl rfl)
theorem dX2_isPlayed_4 : decode cX2_isPlayed 4 = .ok (.iload_n 1, 1) := dk_27 (dk_at dksX2_isPlayed_0 4 rfl rfl)
theorem dX2_isPlayed_5 : decode cX2_isPlayed 5 = .ok (.iconst 1, 1) := dk_4 (dk_at dksX2_isPlayed_0 5 rfl rfl)
theorem dX2_isPlayed_6 : decode cX2_isPlayed 6 = .ok (.iadd, 1) := dk_96 (dk_at dksX2_isPlayed_0 6 rfl rfl)
theorem dX2_isPlayed_7 : decode cX2_isPlayed 7 = .ok (.iaload, 1) := dk_46 (dk_at dksX2_isPlayed_0 7 rfl rfl)
theorem dX2_isPlayed_8 : decode cX2_isPlayed 8 = .ok (.istore_n 2, 1) := dk_61 (dk_at dksX2_isPlayed_0 8 rfl rfl)
theorem dX2_isPlayed_9 : decode cX2_isPlayed 9 = .ok (.aload_n 0, 1) := dk_42 (dk_at dksX2_isPlayed_0 9 rfl rfl)
theorem dX2_isPlayed_10 : decode cX2_isPlayed 10 = .ok (.getfield 16, 3) := dk_180 0 16 (dk_at dksX2_isPlayed_0 10 rfl rfl)
theorem dX2_isPlayed_13 : decode cX2_isPlayed 13 = .ok (.iload_n 1, 1) := dk_27 (dk_at dksX2_isPlayed_0 13 rfl rfl)
theorem dX2_isPlayed_14 : decode cX2_isPlayed 14 = .ok (.iconst 2, 1) := dk_5 (dk_at dksX2_isPlayed_0 14 rfl rfl)
theorem dX2_isPlayed_15 : decode cX2_isPlayed 15 = .ok (.iadd, 1) := dk_96 (dk_at dksX2_isPlayed_0 15 rfl rfl)
theorem dX2_isPlayed_16 : decode cX2_isPlayed 16 = .ok (.iaload, 1) := dk_46 (dk_at dksX2_isPlayed_0 16 rfl rfl)
theorem dX2_isPlayed_17 : decode cX2_isPlayed 17 = .ok (.istore_n 3, 1) := dk_62 (dk_at dksX2_isPlayed_0 17 rfl rfl)
theorem dX2_isPlayed_18 : decode cX2_isPlayed 18 = .ok (.aload_n 0, 1) := dk_42 (dk_at dksX2_isPlayed_0 18 rfl rfl)
theorem dX2_isPlayed_19 : decode cX2_isPlayed 19 = .ok (.getfield 16, 3) := dk_180 0 16 (dk_at dksX2_isPlayed_0 19 rfl rfl)
theorem dX2_isPlayed_22 : decode cX2_isPlayed 22 = .ok (.iload_n 1, 1) := dk_27 (dk_at dksX2_isPlayed_0 22 rfl rfl)
theorem dX2_isPlayed_23 : decode cX2_isPlayed 23 = .ok (.iaload, 1) := dk_46 (dk_at dksX2_isPlayed_0 23 rfl rfl)
theorem dX2_isPlayed_24 : decode cX2_isPlayed 24 = .ok (.tableswitch 101 4 8 #[36, 59, 66, 73, 87], 36) := by decide +kernel
theorem dX2_isPlayed_60 : decode cX2_isPlayed 60 = .ok (.aload_n 0, 1) := dk_42 (dk_at dksX2_isPlayed_2 0 rfl rfl)
theorem dX2_isPlayed_61 : decode cX2_isPlayed 61 = .ok (.iload_n 2, 1) := dk_28 (dk_at dksX2_isPlayed_2 1 rfl rfl)
theorem dX2_isPlayed_62 : decode cX2_isPlayed 62 = .ok (.iload_n 3, 1) := dk_29 (dk_at dksX2_isPlayed_2 2 rfl rfl)
theorem dX2_isPlayed_63 : decode cX2_isPlayed 63 = .ok (.aload_n 0, 1) := dk_42 (dk_at dksX2_isPlayed_2 3 rfl rfl)
theorem dX2_isPlayed_64 : decode cX2_isPlayed 64 = .ok (.getfield 16, 3) := dk_180 0 16 (dk_at dksX2_isPlayed_2 4 rfl rfl)
theorem dX2_isPlayed_67 : decode cX2_isPlayed 67 = .ok (.iload_n 1, 1) := dk_27 (dk_at dksX2_isPlayed_2 7 rfl rfl)
theorem dX2_isPlayed_68 : decode cX2_isPlayed 68 = .ok (.iconst 3, 1) := dk_6 (dk_at dksX2_isPlayed_2 8 rfl rfl)
theorem dX2_isPlayed_69 : decode cX2_isPlayed 69 = .ok (.iadd, 1) := dk_96 (dk_at dksX2_isPlayed_2 9 rfl rfl)
theorem dX2_isPlayed_70 : decode cX2_isPlayed 70 = .ok (.iaload, 1) := dk_46 (dk_at dksX2_isPlayed_2 10 rfl rfl)
theorem dX2_isPlayed_71 : decode cX2_isPlayed 71 = .ok (.invokevirtual 268, 3) := dk_182 1 12 (dk_at dksX2_isPlayed_2 11 rfl rfl)
theorem dX2_isPlayed_74 : decode cX2_isPlayed 74 = .ok (.ifCond .lt 7, 3) := dk_155 0 7 (dk_at dksX2_isPlayed_2 14 rfl rfl)
theorem dX2_isPlayed_77 : decode cX2_isPlayed 77 = .ok (.iconst 1, 1) := dk_4 (dk_at dksX2_isPlayed_2 17 rfl rfl)
theorem dX2_isPlayed_78 : decode cX2_isPlayed 78 = .ok (.goto 4, 3) := dk_167 0 4 (dk_at dksX2_isPlayed_2 18 rfl rfl)
theorem dX2_isPlayed_81 : decode cX2_isPlayed 81 = .ok (.iconst 0, 1) := dk_3 (dk_at dksX2_isPlayed_2 21 rfl rfl)
theorem dX2_isPlayed_82 : decode cX2_isPlayed 82 = .ok (.ireturn, 1) := dk_172 (dk_at dksX2_isPlayed_2 22 rfl rfl)
theorem dX2_isPlayed_83 : decode cX2_isPlayed 83 = .ok (.aload_n 0, 1) := dk_42 (dk_at dksX2_isPlayed_2 23 rfl rfl)
theorem dX2_isPlayed_84 : decode cX2_isPlayed 84 = .ok (.iload_n 2, 1) := dk_28 (dk_at dksX2_isPlayed_3 0 rfl rfl)
theorem dX2_isPlayed_85 : decode cX2_isPlayed 85 = .ok (.iload_n 3, 1) := dk_29 (dk_at dksX2_isPlayed_3 1 rfl rfl)
theorem dX2_isPlayed_86 : decode cX2_isPlayed 86 = .ok (.invokevirtual 271, 3) := dk_182 1 15 (dk_at dksX2_isPlayed_3 2 rfl rfl)
theorem dX2_isPlayed_89 : decode cX2_isPlayed 89 = .ok (.ireturn, 1) := dk_172 (dk_at dksX2_isPlayed_3 5 rfl rfl)
theorem dX2_isPlayed_90 : decode cX2_isPlayed 90 = .ok (.aload_n 0, 1) := dk_42 (dk_at dksX2_isPlayed_3 6 rfl rfl)
theorem dX2_isPlayed_91 : decode cX2_isPlayed 91 = .ok (.iload_n 2, 1) := dk_28 (dk_at dksX2_isPlayed_3 7 rfl rfl)
theorem dX2_isPlayed_92 : decode cX2_isPlayed 92 = .ok (.iload_n 3, 1) := dk_29 (dk_at dksX2_isPlayed_3 8 rfl rfl)
theorem dX2_isPlayed_93 : decode cX2_isPlayed 93 = .ok (.invokevirtual 275, 3) := dk_182 1 19 (dk_at dksX2_isPlayed_3 9 rfl rfl)
theorem dX2_isPlayed_96 : decode cX2_isPlayed 96 = .ok (.ireturn, 1) := dk_172 (dk_at dksX2_isPlayed_3 12 rfl rfl)
theorem dX2_isPlayed_97 : decode cX2_isPlayed 97 = .ok (.aload_n 0, 1) := dk_42 (dk_at dksX2_isPlayed_3 13 rfl rfl)
theorem dX2_isPlayed_98 : decode cX2_isPlayed 98 = .ok (.iload_n 2, 1) := dk_28 (dk_at dksX2_isPlayed_3 14 rfl rfl)
theorem dX2_isPlayed_99 : decode cX2_isPlayed 99 = .ok (.invokevirtual 278, 3) := dk_182 1 22 (dk_at dksX2_isPlayed_3 15 rfl rfl)
theorem dX2_isPlayed_102 : decode cX2_isPlayed 102 = .ok (.ifCond .lt 7, 3) := dk_155 0 7 (dk_at dksX2_isPlayed_3 18 rfl rfl)
theorem dX2_isPlayed_105 : decode cX2_isPlayed 105 = .ok (.iconst 1, 1) := dk_4 (dk_at dksX2_isPlayed_3 21 rfl rfl)
theorem dX2_isPlayed_106 : decode cX2_isPlayed 106 = .ok (.goto 4, 3) := dk_167 0 4 (dk_at dksX2_isPlayed_4 0 rfl rfl)
theorem dX2_isPlayed_109 : decode cX2_isPlayed 109 = .ok (.iconst 0, 1) := dk_3 (dk_at dksX2_isPlayed_4 3 rfl rfl)
theorem dX2_isPlayed_110 : decode cX2_isPlayed 110 = .ok (.ireturn, 1) := dk_172 (dk_at dksX2_isPlayed_4 4 rfl rfl)
theorem dX2_isPlayed_111 : decode cX2_isPlayed 111 = .ok (.aload_n 0, 1) := dk_42 (dk_at dksX2_isPlayed_4 5 rfl rfl)
theorem dX2_isPlayed_112 : decode cX2_isPlayed 112 = .ok (.iload_n 2, 1) := dk_28 (dk_at dksX2_isPlayed_4 6 rfl rfl)
theorem dX2_isPlayed_113 : decode cX2_isPlayed 113 = .ok (.invokevirtual 281, 3) := dk_182 1 25 (dk_at dksX2_isPlayed_4 7 rfl rfl)
theorem dX2_isPlayed_116 : decode cX2_isPlayed 116 = .ok (.ifCond .lt 7, 3) := dk_155 0 7 (dk_at dksX2_isPlayed_4 10 rfl rfl)
theorem dX2_isPlayed_119 : decode cX2_isPlayed 119 = .ok (.iconst 1, 1) := dk_4 (dk_at dksX2_isPlayed_4 13 rfl rfl)
theorem dX2_isPlayed_120 : decode cX2_isPlayed 120 = .ok (.goto 4, 3) := dk_167 0 4 (dk_at dksX2_isPlayed_4 14 rfl rfl)
theorem dX2_isPlayed_123 : decode cX2_isPlayed 123 = .ok (.iconst 0, 1) := dk_3 (dk_at dksX2_isPlayed_4 17 rfl rfl)
theorem dX2_isPlayed_124 : decode cX2_isPlayed 124 = .ok (.ireturn, 1) := dk_172 (dk_at dksX2_isPlayed_4 18 rfl rfl)
theorem dX2_isPlayed_125 : decode cX2_isPlayed 125 = .ok (.iconst 1, 1) := dk_4 (dk_at dksX2_isPlayed_4 19 rfl rfl)
theorem dX2_isPlayed_126 : decode cX2_isPlayed 126 = .ok (.ireturn, 1) := dk_172 (dk_at dksX2_isPlayed_4 20 rfl rfl)
def dkwX2_of_3 : List UInt8 := [184, 1, 47, 172, 42, 27, 182, 1, 50, 153, 0, 7, 4, 167, 0, 4, 3, 172, 16, 254, 172]
abbrev dktX2_of_3 : List UInt8 := dkwX2_of_3 ++ []
def dkwX2_of_2 : List UInt8 := [42, 180, 0, 7, 27, 184, 0, 87, 28, 96, 46, 172, 42, 180, 0, 7, 27, 184, 0, 87, 8, 96, 46]
abbrev dktX2_of_2 : List UInt8 := dkwX2_of_2 ++ dktX2_of_3
def dkwX2_of_1 : List UInt8 := [170, 0, 0, 0, 0, 0, 0, 85, 0, 0, 0, 0, 0, 0, 0, 6, 0, 0, 0, 44, 0, 0, 0, 44, 0, 0, 0, 44, 0, 0, 0, 44, 0, 0, 0, 44, 0, 0, 0, 56, 0, 0, 0, 71]
abbrev dktX2_of_1 : List UInt8 := dkwX2_of_1 ++ dktX2_of_2
def dkwX2_of_0 : List UInt8 := [42, 27, 182, 0, 91, 154, 0, 6, 16, 254, 172, 28]
abbrev dktX2_of_0 : List UInt8 := dkwX2_of_0 ++ dktX2_of_1
theorem dksX2_of_0 : cX2_of.data.toList.drop 0 = dktX2_of_0 := by decide +kernel
theorem dksX2_of_1 : cX2_of.data.toList.drop 12 = dktX2_of_1 := dk_seg dksX2_of_0 12 rfl rfl
theorem dksX2_of_2 : cX2_of.data.toList.drop 56 = dktX2_of_2 := dk_seg dksX2_of_1 44 rfl rfl
theorem dksX2_of_3 : cX2_of.data.toList.drop 79 = dktX2_of_3 := dk_seg dksX2_of_2 23 rfl rfl
theorem dX2_of_0 : decode cX2_of 0 = .ok (.aload_n 0, 1) := dk_42 (dk_at dksX2_of_0 0 rfl rfl)
theorem dX2_of_1 : decode cX2_of 1 = .ok (.iload_n 1, 1) := dk_27 (dk_at dksX2_of_0 1 rfl rfl)
theorem dX2_of_2 : decode cX2_of 2 = .ok (.invokevirtual 91, 3) := dk_182 0 91 (dk_at dksX2_of_0 2 rfl rfl)
theorem dX2_of_5 : decode cX2_of 5 = .ok (.ifCond .ne 6, 3) := dk_154 0 6 (dk_at dksX2_of_0 5 rfl rfl)
theorem dX2_of_8 : decode cX2_of 8 = .ok (.bipush (-2), 2) := dk_16 254 (dk_at dksX2_of_0 8 rfl rfl)
theorem dX2_of_10 : decode cX2_of 10 = .ok (.ireturn, 1) := dk_172 (dk_at dksX2_of_0 10 rfl rfl)
theorem dX2_of_11 : decode cX2_of 11 = .ok (.iload_n 2, 1) := dk_28 (dk_at dksX2_of_0 11 rfl rfl)
theorem dX2_of_12 : decode cX2_of 12 = .ok (.tableswitch 85 0 6 #[44, 44, 44, 44, 44, 56, 71], 44) := by decide +kernel
theorem dX2_of_56 : decode cX2_of 56 = .ok (.aload_n 0, 1) := dk_42 (dk_at dksX2_of_2 0 rfl rfl)
theorem dX2_of_57 : decode cX2_of 57 = .ok (.getfield 7, 3) := dk_180 0 7 (dk_at dksX2_of_2 1 rfl rfl)
theorem dX2_of_60 : decode cX2_of 60 = .ok (.iload_n 1, 1) := dk_27 (dk_at dksX2_of_2 4 rfl rfl)
theorem dX2_of_61 : decode cX2_of 61 = .ok (.invokestatic 87, 3) := dk_184 0 87 (dk_at dksX2_of_2 5 rfl rfl)
theorem dX2_of_64 : decode cX2_of 64 = .ok (.iload_n 2, 1) := dk_28 (dk_at dksX2_of_2 8 rfl rfl)
theorem dX2_of_65 : decode cX2_of 65 = .ok (.iadd, 1) := dk_96 (dk_at dksX2_of_2 9 rfl rfl)
theorem dX2_of_66 : decode cX2_of 66 = .ok (.iaload, 1) := dk_46 (dk_at dksX2_of_2 10 rfl rfl)
theorem dX2_of_67 : decode cX2_of 67 = .ok (.ireturn, 1) := dk_172 (dk_at dksX2_of_2 11 rfl rfl)
theorem dX2_of_68 : decode cX2_of 68 = .ok (.aload_n 0, 1) := dk_42 (dk_at dksX2_of_2 12 rfl rfl)
theorem dX2_of_69 : decode cX2_of 69 = .ok (.getfield 7, 3) := dk_180 0 7 (dk_at dksX2_of_2 13 rfl rfl)
theorem dX2_of_72 : decode cX2_of 72 = .ok (.iload_n 1, 1) := dk_27 (dk_at dksX2_of_2 16 rfl rfl)
theorem dX2_of_73 : decode cX2_of 73 = .ok (.invokestatic 87, 3) := dk_184 0 87 (dk_at dksX2_of_2 17 rfl rfl)
theorem dX2_of_76 : decode cX2_of 76 = .ok (.iconst 5, 1) := dk_8 (dk_at dksX2_of_2 20 rfl rfl)
theorem dX2_of_77 : decode cX2_of 77 = .ok (.iadd, 1) := dk_96 (dk_at dksX2_of_2 21 rfl rfl)
theorem dX2_of_78 : decode cX2_of 78 = .ok (.iaload, 1) := dk_46 (dk_at dksX2_of_2 22 rfl rfl)
theorem dX2_of_79 : decode cX2_of 79 = .ok (.invokestatic 303, 3) := dk_184 1 47 (dk_at dksX2_of_3 0 rfl rfl)
theorem dX2_of_82 : decode cX2_of 82 = .ok (.ireturn, 1) := dk_172 (dk_at dksX2_of_3 3 rfl rfl)
theorem dX2_of_83 : decode cX2_of 83 = .ok (.aload_n 0, 1) := dk_42 (dk_at dksX2_of_3 4 rfl rfl)
theorem dX2_of_84 : decode cX2_of 84 = .ok (.iload_n 1, 1) := dk_27 (dk_at dksX2_of_3 5 rfl rfl)
theorem dX2_of_85 : decode cX2_of 85 = .ok (.invokevirtual 306, 3) := dk_182 1 50 (dk_at dksX2_of_3 6 rfl rfl)
theorem dX2_of_88 : decode cX2_of 88 = .ok (.ifCond .eq 7, 3) := dk_153 0 7 (dk_at dksX2_of_3 9 rfl rfl)
theorem dX2_of_91 : decode cX2_of 91 = .ok (.iconst 1, 1) := dk_4 (dk_at dksX2_of_3 12 rfl rfl)
theorem dX2_of_92 : decode cX2_of 92 = .ok (.goto 4, 3) := dk_167 0 4 (dk_at dksX2_of_3 13 rfl rfl)
theorem dX2_of_95 : decode cX2_of 95 = .ok (.iconst 0, 1) := dk_3 (dk_at dksX2_of_3 16 rfl rfl)
theorem dX2_of_96 : decode cX2_of 96 = .ok (.ireturn, 1) := dk_172 (dk_at dksX2_of_3 17 rfl rfl)
theorem dX2_of_97 : decode cX2_of 97 = .ok (.bipush (-2), 2) := dk_16 254 (dk_at dksX2_of_3 18 rfl rfl)
theorem dX2_of_99 : decode cX2_of 99 = .ok (.ireturn, 1) := dk_172 (dk_at dksX2_of_3 20 rfl rfl)
def dkwX2_isHoly_1 : List UInt8 := [180, 0, 39, 3, 51, 172]
abbrev dktX2_isHoly_1 : List UInt8 := dkwX2_isHoly_1 ++ []
def dkwX2_isHoly_0 : List UInt8 := [42, 4, 182, 0, 103, 61, 28, 156, 0, 5, 4, 172, 42, 27, 3, 182, 0, 106, 42, 28, 182, 0, 110, 42]
abbrev dktX2_isHoly_0 : List UInt8 := dkwX2_isHoly_0 ++ dktX2_isHoly_1
theorem dksX2_isHoly_0 : cX2_isHoly.data.toList.drop 0 = dktX2_isHoly_0 := by decide +kernel
theorem dksX2_isHoly_1 : cX2_isHoly.data.toList.drop 24 = dktX2_isHoly_1 := dk_seg dksX2_isHoly_0 24 rfl rfl
theorem dX2_isHoly_0 : decode cX2_isHoly 0 = .ok (.aload_n 0, 1) := dk_42 (dk_at dksX2_isHoly_0 0 rfl rfl)
theorem dX2_isHoly_1 : decode cX2_isHoly 1 = .ok (.iconst 1, 1) := dk_4 (dk_at dksX2_isHoly_0 1 rfl rfl)
theorem dX2_isHoly_2 : decode cX2_isHoly 2 = .ok (.invokevirtual 103, 3) := dk_182 0 103 (dk_at dksX2_isHoly_0 2 rfl rfl)
theorem dX2_isHoly_5 : decode cX2_isHoly 5 = .ok (.istore_n 2, 1) := dk_61 (dk_at dksX2_isHoly_0 5 rfl rfl)
theorem dX2_isHoly_6 : decode cX2_isHoly 6 = .ok (.iload_n 2, 1) := dk_28 (dk_at dksX2_isHoly_0 6 rfl rfl)
theorem dX2_isHoly_7 : decode cX2_isHoly 7 = .ok (.ifCond .ge 5, 3) := dk_156 0 5 (dk_at dksX2_isHoly_0 7 rfl rfl)
theorem dX2_isHoly_10 : decode cX2_isHoly 10 = .ok (.iconst 1, 1) := dk_4 (dk_at dksX2_isHoly_0 10 rfl rfl)
theorem dX2_isHoly_11 : decode cX2_isHoly 11 = .ok (.ireturn, 1) := dk_172 (dk_at dksX2_isHoly_0 11 rfl rfl)
theorem dX2_isHoly_12 : decode cX2_isHoly 12 = .ok (.aload_n 0, 1) := dk_42 (dk_at dksX2_isHoly_0 12 rfl rfl)
theorem dX2_isHoly_13 : decode cX2_isHoly 13 = .ok (.iload_n 1, 1) := dk_27 (dk_at dksX2_isHoly_0 13 rfl rfl)
theorem dX2_isHoly_14 : decode cX2_isHoly 14 = .ok (.iconst 0, 1) := dk_3 (dk_at dksX2_isHoly_0 14 rfl rfl)
theorem dX2_isHoly_15 : decode cX2_isHoly 15 = .ok (.invokevirtual 106, 3) := dk_182 0 106 (dk_at dksX2_isHoly_0 15 rfl rfl)
theorem dX2_isHoly_18 : decode cX2_isHoly 18 = .ok (.aload_n 0, 1) := dk_42 (dk_at dksX2_isHoly_0 18 rfl rfl)
theorem dX2_isHoly_19 : decode cX2_isHoly 19 = .ok (.iload_n 2, 1) := dk_28 (dk_at dksX2_isHoly_0 19 rfl rfl)
theorem dX2_isHoly_20 : decode cX2_isHoly 20 = .ok (.invokevirtual 110, 3) := dk_182 0 110 (dk_at dksX2_isHoly_0 20 rfl rfl)
theorem dX2_isHoly_23 : decode cX2_isHoly 23 = .ok (.aload_n 0, 1) := dk_42 (dk_at dksX2_isHoly_0 23 rfl rfl)
theorem dX2_isHoly_24 : decode cX2_isHoly 24 = .ok (.getfield 39, 3) := dk_180 0 39 (dk_at dksX2_isHoly_1 0 rfl rfl)
theorem dX2_isHoly_27 : decode cX2_isHoly 27 = .ok (.iconst 0, 1) := dk_3 (dk_at dksX2_isHoly_1 3 rfl rfl)
theorem dX2_isHoly_28 : decode cX2_isHoly 28 = .ok (.baload, 1) := dk_51 (dk_at dksX2_isHoly_1 4 rfl rfl)
theorem dX2_isHoly_29 : decode cX2_isHoly 29 = .ok (.ireturn, 1) := dk_172 (dk_at dksX2_isHoly_1 5 rfl rfl)
def dkwX2_saints_4 : List UInt8 := [46, 28, 160, 0, 11, 42, 180, 0, 52, 21, 4, 46, 172, 132, 4, 1, 167, 255, 225, 2, 172]
abbrev dktX2_saints_4 : List UInt8 := dkwX2_saints_4 ++ []
def dkwX2_saints_3 : List UInt8 := [2, 160, 0, 5, 29, 172, 3, 54, 4, 21, 4, 42, 180, 1, 53, 162, 0, 28, 42, 180, 0, 43, 21, 4]
abbrev dktX2_saints_3 : List UInt8 := dkwX2_saints_3 ++ dktX2_saints_4
def dkwX2_saints_2 : List UInt8 := [16, 254, 172, 42, 182, 1, 71, 3, 62, 42, 29, 182, 1, 74, 154, 0, 9, 132, 3, 1, 167, 255, 245, 28]
abbrev dktX2_saints_2 : List UInt8 := dkwX2_saints_2 ++ dktX2_saints_3
def dkwX2_saints_1 : List UInt8 := [28, 182, 0, 91, 154, 0, 6, 16, 254, 172, 42, 27, 182, 1, 68, 42, 180, 1, 53, 16, 12, 164, 0, 6]
abbrev dktX2_saints_1 : List UInt8 := dkwX2_saints_1 ++ dktX2_saints_2
def dkwX2_saints_0 : List UInt8 := [27, 3, 4, 42, 180, 0, 7, 3, 46, 120, 4, 100, 184, 0, 75, 153, 0, 16, 28, 2, 159, 0, 14, 42]
abbrev dktX2_saints_0 : List UInt8 := dkwX2_saints_0 ++ dktX2_saints_1
theorem dksX2_saints_0 : cX2_saints.data.toList.drop 0 = dktX2_saints_0 := by decide +kernel
theorem dksX2_saints_1 : cX2_saints.data.toList.drop 24 = dktX2_saints_1 := dk_seg dksX2_saints_0 24 rfl rfl
theorem dksX2_saints_2 : cX2_saints.data.toList.drop 48 = dktX2_saints_2 := dk_seg dksX2_saints_1 24 rfl rfl
theorem dksX2_saints_3 : cX2_saints.data.toList.drop 72 = dktX2_saints_3 := dk_seg dksX2_saints_2 24 rfl rfl
theorem dksX2_saints_4 : cX2_saints.data.toList.drop 96 = dktX2_saints_4 := dk_seg dksX2_saints_3 24 rfl rfl
theorem dX2_saints_0 : decode cX2_saints 0 = .ok (.iload_n 1, 1) := dk_27 (dk_at dksX2_saints_0 0 rfl rfl)
theorem dX2_saints_1 : decode cX2_saints 1 = .ok (.iconst 0, 1) := dk_3 (dk_at dksX2_saints_0 1 rfl rfl)
theorem dX2_saints_2 : decode cX2_saints 2 = .ok (.iconst 1, 1) := dk_4 (dk_at dksX2_saints_0 2 rfl rfl)
theorem dX2_saints_3 : decode cX2_saints 3 = .ok (.aload_n 0, 1) := dk_42 (dk_at dksX2_saints_0 3 rfl rfl)
theorem dX2_saints_4 : decode cX2_saints 4 = .ok (.getfield 7, 3) := dk_180 0 7 (dk_at dksX2_saints_0 4 rfl rfl)
theorem dX2_saints_7 : decode cX2_saints 7 = .ok (.iconst 0, 1) := dk_3 (dk_at dksX2_saints_0 7 rfl rfl)
theorem dX2_saints_8 : decode cX2_saints 8 = .ok (.iaload, 1) := dk_46 (dk_at dksX2_saints_0 8 rfl rfl)
theorem dX2_saints_9 : decode cX2_saints 9 = .ok (.ishl, 1) := dk_120 (dk_at dksX2_saints_0 9 rfl rfl)
theorem dX2_saints_10 : decode cX2_saints 10 = .ok (.iconst 1, 1) := dk_4 (dk_at dksX2_saints_0 10 rfl rfl)
theorem dX2_saints_11 : decode cX2_saints 11 = .ok (.isub, 1) := dk_100 (dk_at dksX2_saints_0 11 rfl rfl)
theorem dX2_saints_12 : decode cX2_saints 12 = .ok (.invokestatic 75, 3) := dk_184 0 75 (dk_at dksX2_saints_0 12 rfl rfl)
theorem dX2_saints_15 : decode cX2_saints 15 = .ok (.ifCond .eq 16, 3) := dk_153 0 16 (dk_at dksX2_saints_0 15 rfl rfl)
theorem dX2_saints_18 : decode cX2_saints 18 = .ok (.iload_n 2, 1) := dk_28 (dk_at dksX2_saints_0 18 rfl rfl)
theorem dX2_saints_19 : decode cX2_saints 19 = .ok (.iconst (-1), 1) := dk_2 (dk_at dksX2_saints_0 19 rfl rfl)
theorem dX2_saints_20 : decode cX2_saints 20 = .ok (.if_icmp .eq 14, 3) := dk_159 0 14 (dk_at dksX2_saints_0 20 rfl rfl)
theorem dX2_saints_23 : decode cX2_saints 23 = .ok (.aload_n 0, 1) := dk_42 (dk_at dksX2_saints_0 23 rfl rfl)
theorem dX2_saints_24 : decode cX2_saints 24 = .ok (.iload_n 2, 1) := dk_28 (dk_at dksX2_saints_1 0 rfl rfl)
theorem dX2_saints_25 : decode cX2_saints 25 = .ok (.invokevirtual 91, 3) := dk_182 0 91 (dk_at dksX2_saints_1 1 rfl rfl)
theorem dX2_saints_28 : decode cX2_saints 28 = .ok (.ifCond .ne 6, 3) := dk_154 0 6 (dk_at dksX2_saints_1 4 rfl rfl)
theorem dX2_saints_31 : decode cX2_saints 31 = .ok (.bipush (-2), 2) := dk_16 254 (dk_at dksX2_saints_1 7 rfl rfl)
theorem dX2_saints_33 : decode cX2_saints 33 = .ok (.ireturn, 1) := dk_172 (dk_at dksX2_saints_1 9 rfl rfl)
theorem dX2_saints_34 : decode cX2_saints 34 = .ok (.aload_n 0, 1) := dk_42 (dk_at dksX2_saints_1 10 rfl rfl)
theorem dX2_saints_35 : decode cX2_saints 35 = .ok (.iload_n 1, 1) := dk_27 (dk_at dksX2_saints_1 11 rfl rfl)
theorem dX2_saints_36 : decode cX2_saints 36 = .ok (.invokevirtual 324, 3) := dk_182 1 68 (dk_at dksX2_saints_1 12 rfl rfl)
theorem dX2_saints_39 : decode cX2_saints 39 = .ok (.aload_n 0, 1) := dk_42 (dk_at dksX2_saints_1 15 rfl rfl)
theorem dX2_saints_40 : decode cX2_saints 40 = .ok (.getfield 309, 3) := dk_180 1 53 (dk_at dksX2_saints_1 16 rfl rfl)
theorem dX2_saints_43 : decode cX2_saints 43 = .ok (.bipush 12, 2) := dk_16 12 (dk_at dksX2_saints_1 19 rfl rfl)
theorem dX2_saints_45 : decode cX2_saints 45 = .ok (.if_icmp .le 6, 3) := dk_164 0 6 (dk_at dksX2_saints_1 21 rfl rfl)
theorem dX2_saints_48 : decode cX2_saints 48 = .ok (.bipush (-2), 2) := dk_16 254 (dk_at dksX2_saints_2 0 rfl rfl)
theorem dX2_saints_50 : decode cX2_saints 50 = .ok (.ireturn, 1) := dk_172 (dk_at dksX2_saints_2 2 rfl rfl)
theorem dX2_saints_51 : decode cX2_saints 51 = .ok (.aload_n 0, 1) := dk_42 (dk_at dksX2_saints_2 3 rfl rfl)
theorem dX2_saints_52 : decode cX2_saints 52 = .ok (.invokevirtual 327, 3) := dk_182 1 71 (dk_at dksX2_saints_2 4 rfl rfl)
theorem dX2_saints_55 : decode cX2_saints 55 = .ok (.iconst 0, 1) := dk_3 (dk_at dksX2_saints_2 7 rfl rfl)
theorem dX2_saints_56 : decode cX2_saints 56 = .ok (.istore_n 3, 1) := dk_62 (dk_at dksX2_saints_2 8 rfl rfl)
theorem dX2_saints_57 : decode cX2_saints 57 = .ok (.aload_n 0, 1) := dk_42 (dk_at dksX2_saints_2 9 rfl rfl)
theorem dX2_saints_58 : decode cX2_saints 58 = .ok (.iload_n 3, 1) := dk_29 (dk_at dksX2_saints_2 10 rfl rfl)
theorem dX2_saints_59 : decode cX2_saints 59 = .ok (.invokevirtual 330, 3) := dk_182 1 74 (dk_at dksX2_saints_2 11 rfl rfl)
theorem dX2_saints_62 : decode cX2_saints 62 = .ok (.ifCond .ne 9, 3) := dk_154 0 9 (dk_at dksX2_saints_2 14 rfl rfl)
theorem dX2_saints_65 : decode cX2_saints 65 = .ok (.iinc 3 1, 3) := dk_132 3 1 (dk_at dksX2_saints_2 17 rfl rfl)
theorem dX2_saints_68 : decode cX2_saints 68 = .ok (.goto (-11), 3) := dk_167 255 245 (dk_at dksX2_saints_2 20 rfl rfl)
theorem dX2_saints_71 : decode cX2_saints 71 = .ok (.iload_n 2, 1) := dk_28 (dk_at dksX2_saints_2 23 rfl rfl)
theorem dX2_saints_72 : decode cX2_saints 72 = .ok (.iconst (-1), 1) := dk_2 (dk_at dksX2_saints_3 0 rfl rfl)
theorem dX2_saints_73 : decode cX2_saints 73 = .ok (.if_icmp .ne 5, 3) := dk_160 0 5 (dk_at dksX2_saints_3 1 rfl rfl)
theorem dX2_saints_76 : decode cX2_saints 76 = .ok (.iload_n 3, 1) := dk_29 (dk_at dksX2_saints_3 4 rfl rfl)
theorem dX2_saints_77 : decode cX2_saints 77 = .ok (.ireturn, 1) := dk_172 (dk_at dksX2_saints_3 5 rfl rfl)
theorem dX2_saints_78 : decode cX2_saints 78 = .ok (.iconst 0, 1) := dk_3 (dk_at dksX2_saints_3 6 rfl rfl)
theorem dX2_saints_79 : decode cX2_saints 79 = .ok (.istore 4, 2) := dk_54 4 (dk_at dksX2_saints_3 7 rfl rfl)
theorem dX2_saints_81 : decode cX2_saints 81 = .ok (.iload 4, 2) := dk_21 4 (dk_at dksX2_saints_3 9 rfl rfl)
theorem dX2_saints_83 : decode cX2_saints 83 = .ok (.aload_n 0, 1) := dk_42 (dk_at dksX2_saints_3 11 rfl rfl)
theorem dX2_saints_84 : decode cX2_saints 84 = .ok (.getfield 309, 3) := dk_180 1 53 (dk_at dksX2_saints_3 12 rfl rfl)
theorem dX2_saints_87 : decode cX2_saints 87 = .ok (.if_icmp .ge 28, 3) := dk_162 0 28 (dk_at dksX2_saints_3 15 rfl rfl)
theorem dX2_saints_90 : decode cX2_saints 90 = .ok (.aload_n 0, 1) := dk_42 (dk_at dksX2_saints_3 18 rfl rfl)
theorem dX2_saints_91 : decode cX2_saints 91 = .ok (.getfield 43, 3) := dk_180 0 43 (dk_at dksX2_saints_3 19 rfl rfl)
theorem dX2_saints_94 : decode cX2_saints 94 = .ok (.iload 4, 2) := dk_21 4 (dk_at dksX2_saints_3 22 rfl rfl)
theorem dX2_saints_96 : decode cX2_saints 96 = .ok (.iaload, 1) := dk_46 (dk_at dksX2_saints_4 0 rfl rfl)
theorem dX2_saints_97 : decode cX2_saints 97 = .ok (.iload_n 2, 1) := dk_28 (dk_at dksX2_saints_4 1 rfl rfl)
theorem dX2_saints_98 : decode cX2_saints 98 = .ok (.if_icmp .ne 11, 3) := dk_160 0 11 (dk_at dksX2_saints_4 2 rfl rfl)
theorem dX2_saints_101 : decode cX2_saints 101 = .ok (.aload_n 0, 1) := dk_42 (dk_at dksX2_saints_4 5 rfl rfl)
theorem dX2_saints_102 : decode cX2_saints 102 = .ok (.getfield 52, 3) := dk_180 0 52 (dk_at dksX2_saints_4 6 rfl rfl)
theorem dX2_saints_105 : decode cX2_saints 105 = .ok (.iload 4, 2) := dk_21 4 (dk_at dksX2_saints_4 9 rfl rfl)
theorem dX2_saints_107 : decode cX2_saints 107 = .ok (.iaload, 1) := dk_46 (dk_at dksX2_saints_4 11 rfl rfl)
theorem dX2_saints_108 : decode cX2_saints 108 = .ok (.ireturn, 1) := dk_172 (dk_at dksX2_saints_4 12 rfl rfl)
theorem dX2_saints_109 : decode cX2_saints 109 = .ok (.iinc 4 1, 3) := dk_132 4 1 (dk_at dksX2_saints_4 13 rfl rfl)
theorem dX2_saints_112 : decode cX2_saints 112 = .ok (.goto (-31), 3) := dk_167 255 225 (dk_at dksX2_saints_4 16 rfl rfl)
theorem dX2_saints_115 : decode cX2_saints 115 = .ok (.iconst (-1), 1) := dk_2 (dk_at dksX2_saints_4 19 rfl rfl)
theorem dX2_saints_116 : decode cX2_saints 116 = .ok (.ireturn, 1) := dk_172 (dk_at dksX2_saints_4 20 rfl rfl)
def dkwX2_findAsked_3 : List UInt8 := [167, 255, 194, 177]
abbrev dktX2_findAsked_3 : List UInt8 := dkwX2_findAsked_3 ++ []
def dkwX2_findAsked_2 : List UInt8 := [180, 0, 43, 42, 180, 1, 53, 28, 79, 42, 89, 180, 1, 53, 4, 96, 181, 1, 53, 132, 2, 1]
abbrev dktX2_findAsked_2 : List UInt8 := dkwX2_findAsked_2 ++ dktX2_findAsked_3
def dkwX2_findAsked_1 : List UInt8 := [184, 0, 87, 6, 96, 46, 122, 4, 126, 153, 0, 34, 42, 28, 182, 1, 50, 154, 0, 6, 167, 0, 23, 42]
abbrev dktX2_findAsked_1 : List UInt8 := dkwX2_findAsked_1 ++ dktX2_findAsked_2
def dkwX2_findAsked_0 : List UInt8 := [42, 3, 181, 1, 53, 3, 61, 28, 42, 180, 0, 7, 4, 46, 162, 0, 58, 27, 42, 180, 0, 7, 28]
abbrev dktX2_findAsked_0 : List UInt8 := dkwX2_findAsked_0 ++ dktX2_findAsked_1
theorem dksX2_findAsked_0 : cX2_findAsked.data.toList.drop 0 = dktX2_findAsked_0 := by decide +kernel
theorem dksX2_findAsked_1 : cX2_findAsked.data.toList.drop 23 = dktX2_findAsked_1 := dk_seg dksX2_findAsked_0 23 rfl rfl
theorem dksX2_findAsked_2 : cX2_findAsked.data.toList.drop 47 = dktX2_findAsked_2 := dk_seg dksX2_findAsked_1 24 rfl rfl
theorem dksX2_findAsked_3 : cX2_findAsked.data.toList.drop 69 = dktX2_findAsked_3 := dk_seg dksX2_findAsked_2 22 rfl rfl
theorem dX2_findAsked_0 : decode cX2_findAsked 0 = .ok (.aload_n 0, 1) := dk_42 (dk_at dksX2_findAsked_0 0 rfl rfl)
theorem dX2_findAsked_1 : decode cX2_findAsked 1 = .ok (.iconst 0, 1) := dk_3 (dk_at dksX2_findAsked_0 1 rfl rfl)
theorem dX2_findAsked_2 : decode cX2_findAsked 2 = .ok (.putfield 309, 3) := dk_181 1 53 (dk_at dksX2_findAsked_0 2 rfl rfl)
theorem dX2_findAsked_5 : decode cX2_findAsked 5 = .ok (.iconst 0, 1) := dk_3 (dk_at dksX2_findAsked_0 5 rfl rfl)
theorem dX2_findAsked_6 : decode cX2_findAsked 6 = .ok (.istore_n 2, 1) := dk_61 (dk_at dksX2_findAsked_0 6 rfl rfl)
theorem dX2_findAsked_7 : decode cX2_findAsked 7 = .ok (.iload_n 2, 1) := dk_28 (dk_at dksX2_findAsked_0 7 rfl rfl)
theorem dX2_findAsked_8 : decode cX2_findAsked 8 = .ok (.aload_n 0, 1) := dk_42 (dk_at dksX2_findAsked_0 8 rfl rfl)
theorem dX2_findAsked_9 : decode cX2_findAsked 9 = .ok (.getfield 7, 3) := dk_180 0 7 (dk_at dksX2_findAsked_0 9 rfl rfl)
theorem dX2_findAsked_12 : decode cX2_findAsked 12 = .ok (.iconst 1, 1) := dk_4 (dk_at dksX2_findAsked_0 12 rfl rfl)
theorem dX2_findAsked_13 : decode cX2_findAsked 13 = .ok (.iaload, 1) := dk_46 (dk_at dksX2_findAsked_0 13 rfl rfl)
theorem dX2_findAsked_14 : decode cX2_findAsked 14 = .ok (.if_icmp .ge 58, 3) := dk_162 0 58 (dk_at dksX2_findAsked_0 14 rfl rfl)
theorem dX2_findAsked_17 : decode cX2_findAsked 17 = .ok (.iload_n 1, 1) := dk_27 (dk_at dksX2_findAsked_0 17 rfl rfl)
theorem dX2_findAsked_18 : decode cX2_findAsked 18 = .ok (.aload_n 0, 1) := dk_42 (dk_at dksX2_findAsked_0 18 rfl rfl)
theorem dX2_findAsked_19 : decode cX2_findAsked 19 = .ok (.getfield 7, 3) := dk_180 0 7 (dk_at dksX2_findAsked_0 19 rfl rfl)
theorem dX2_findAsked_22 : decode cX2_findAsked 22 = .ok (.iload_n 2, 1) := dk_28 (dk_at dksX2_findAsked_0 22 rfl rfl)
theorem dX2_findAsked_23 : decode cX2_findAsked 23 = .ok (.invokestatic 87, 3) := dk_184 0 87 (dk_at dksX2_findAsked_1 0 rfl rfl)
theorem dX2_findAsked_26 : decode cX2_findAsked 26 = .ok (.iconst 3, 1) := dk_6 (dk_at dksX2_findAsked_1 3 rfl rfl)
theorem dX2_findAsked_27 : decode cX2_findAsked 27 = .ok (.iadd, 1) := dk_96 (dk_at dksX2_findAsked_1 4 rfl rfl)
theorem dX2_findAsked_28 : decode cX2_findAsked 28 = .ok (.iaload, 1) := dk_46 (dk_at dksX2_findAsked_1 5 rfl rfl)
theorem dX2_findAsked_29 : decode cX2_findAsked 29 = .ok (.ishr, 1) := dk_122 (dk_at dksX2_findAsked_1 6 rfl rfl)
theorem dX2_findAsked_30 : decode cX2_findAsked 30 = .ok (.iconst 1, 1) := dk_4 (dk_at dksX2_findAsked_1 7 rfl rfl)
theorem dX2_findAsked_31 : decode cX2_findAsked 31 = .ok (.iand, 1) := dk_126 (dk_at dksX2_findAsked_1 8 rfl rfl)
theorem dX2_findAsked_32 : decode cX2_findAsked 32 = .ok (.ifCond .eq 34, 3) := dk_153 0 34 (dk_at dksX2_findAsked_1 9 rfl rfl)
theorem dX2_findAsked_35 : decode cX2_findAsked 35 = .ok (.aload_n 0, 1) := dk_42 (dk_at dksX2_findAsked_1 12 rfl rfl)
theorem dX2_findAsked_36 : decode cX2_findAsked 36 = .ok (.iload_n 2, 1) := dk_28 (dk_at dksX2_findAsked_1 13 rfl rfl)
theorem dX2_findAsked_37 : decode cX2_findAsked 37 = .ok (.invokevirtual 306, 3) := dk_182 1 50 (dk_at dksX2_findAsked_1 14 rfl rfl)
theorem dX2_findAsked_40 : decode cX2_findAsked 40 = .ok (.ifCond .ne 6, 3) := dk_154 0 6 (dk_at dksX2_findAsked_1 17 rfl rfl)
theorem dX2_findAsked_43 : decode cX2_findAsked 43 = .ok (.goto 23, 3) := dk_167 0 23 (dk_at dksX2_findAsked_1 20 rfl rfl)
theorem dX2_findAsked_46 : decode cX2_findAsked 46 = .ok (.aload_n 0, 1) := dk_42 (dk_at dksX2_findAsked_1 23 rfl rfl)
theorem dX2_findAsked_47 : decode cX2_findAsked 47 = .ok (.getfield 43, 3) := dk_180 0 43 (dk_at dksX2_findAsked_2 0 rfl rfl)
theorem dX2_findAsked_50 : decode cX2_findAsked 50 = .ok (.aload_n 0, 1) := dk_42 (dk_at dksX2_findAsked_2 3 rfl rfl)
theorem dX2_findAsked_51 : decode cX2_findAsked 51 = .ok (.getfield 309, 3) := dk_180 1 53 (dk_at dksX2_findAsked_2 4 rfl rfl)
theorem dX2_findAsked_54 : decode cX2_findAsked 54 = .ok (.iload_n 2, 1) := dk_28 (dk_at dksX2_findAsked_2 7 rfl rfl)
theorem dX2_findAsked_55 : decode cX2_findAsked 55 = .ok (.iastore, 1) := dk_79 (dk_at dksX2_findAsked_2 8 rfl rfl)
theorem dX2_findAsked_56 : decode cX2_findAsked 56 = .ok (.aload_n 0, 1) := dk_42 (dk_at dksX2_findAsked_2 9 rfl rfl)
theorem dX2_findAsked_57 : decode cX2_findAsked 57 = .ok (.dup, 1) := dk_89 (dk_at dksX2_findAsked_2 10 rfl rfl)
theorem dX2_findAsked_58 : decode cX2_findAsked 58 = .ok (.getfield 309, 3) := dk_180 1 53 (dk_at dksX2_findAsked_2 11 rfl rfl)
theorem dX2_findAsked_61 : decode cX2_findAsked 61 = .ok (.iconst 1, 1) := dk_4 (dk_at dksX2_findAsked_2 14 rfl rfl)
theorem dX2_findAsked_62 : decode cX2_findAsked 62 = .ok (.iadd, 1) := dk_96 (dk_at dksX2_findAsked_2 15 rfl rfl)
theorem dX2_findAsked_63 : decode cX2_findAsked 63 = .ok (.putfield 309, 3) := dk_181 1 53 (dk_at dksX2_findAsked_2 16 rfl rfl)
theorem dX2_findAsked_66 : decode cX2_findAsked 66 = .ok (.iinc 2 1, 3) := dk_132 2 1 (dk_at dksX2_findAsked_2 19 rfl rfl)
theorem dX2_findAsked_69 : decode cX2_findAsked 69 = .ok (.goto (-62), 3) := dk_167 255 194 (dk_at dksX2_findAsked_3 0 rfl rfl)
theorem dX2_findAsked_72 : decode cX2_findAsked 72 = .ok (.return_, 1) := dk_177 (dk_at dksX2_findAsked_3 3 rfl rfl)
def dkwX2_findBarred_4 : List UInt8 := [167, 255, 162, 177]
abbrev dktX2_findBarred_4 : List UInt8 := dkwX2_findBarred_4 ++ []
def dkwX2_findBarred_3 : List UInt8 := [153, 0, 15, 42, 180, 0, 46, 27, 92, 46, 4, 28, 120, 128, 79, 132, 2, 1, 167, 255, 209, 132, 1, 1]
abbrev dktX2_findBarred_3 : List UInt8 := dkwX2_findBarred_3 ++ dktX2_findBarred_4
def dkwX2_findBarred_2 : List UInt8 := [162, 0, 45, 27, 28, 159, 0, 34, 42, 42, 180, 0, 43, 27, 46, 42, 180, 0, 43, 28, 46, 182, 1, 59]
abbrev dktX2_findBarred_2 : List UInt8 := dkwX2_findBarred_2 ++ dktX2_findBarred_3
def dkwX2_findBarred_1 : List UInt8 := [180, 0, 7, 42, 180, 0, 43, 27, 46, 184, 0, 87, 46, 182, 1, 56, 79, 3, 61, 28, 42, 180, 1, 53]
abbrev dktX2_findBarred_1 : List UInt8 := dkwX2_findBarred_1 ++ dktX2_findBarred_2
def dkwX2_findBarred_0 : List UInt8 := [3, 60, 27, 42, 180, 1, 53, 162, 0, 92, 42, 180, 0, 46, 27, 3, 79, 42, 180, 0, 49, 27, 42, 42]
abbrev dktX2_findBarred_0 : List UInt8 := dkwX2_findBarred_0 ++ dktX2_findBarred_1
theorem dksX2_findBarred_0 : cX2_findBarred.data.toList.drop 0 = dktX2_findBarred_0 := by decide +kernel
theorem dksX2_findBarred_1 : cX2_findBarred.data.toList.drop 24 = dktX2_findBarred_1 := dk_seg dksX2_findBarred_0 24 rfl rfl
theorem dksX2_findBarred_2 : cX2_findBarred.data.toList.drop 48 = dktX2_findBarred_2 := dk_seg dksX2_findBarred_1 24 rfl rfl
theorem dksX2_findBarred_3 : cX2_findBarred.data.toList.drop 72 = dktX2_findBarred_3 := dk_seg dksX2_findBarred_2 24 rfl rfl
theorem dksX2_findBarred_4 : cX2_findBarred.data.toList.drop 96 = dktX2_findBarred_4 := dk_seg dksX2_findBarred_3 24 rfl rfl
theorem dX2_findBarred_0 : decode cX2_findBarred 0 = .ok (.iconst 0, 1) := dk_3 (dk_at dksX2_findBarred_0 0 rfl rfl)
theorem dX2_findBarred_1 : decode cX2_findBarred 1 = .ok (.istore_n 1, 1) := dk_60 (dk_at dksX2_findBarred_0 1 rfl rfl)
theorem dX2_findBarred_2 : decode cX2_findBarred 2 = .ok (.iload_n 1, 1) := dk_27 (dk_at dksX2_findBarred_0 2 rfl rfl)
theorem dX2_findBarred_3 : decode cX2_findBarred 3 = .ok (.aload_n 0, 1) := dk_42 (dk_at dksX2_findBarred_0 3 rfl rfl)
theorem dX2_findBarred_4 : decode cX2_findBarred 4 = .ok (.getfield 309, 3) := dk_180 1 53 (dk_at dksX2_findBarred_0 4 rfl rfl)
theorem dX2_findBarred_7 : decode cX2_findBarred 7 = .ok (.if_icmp .ge 92, 3) := dk_162 0 92 (dk_at dksX2_findBarred_0 7 rfl rfl)
theorem dX2_findBarred_10 : decode cX2_findBarred 10 = .ok (.aload_n 0, 1) := dk_42 (dk_at dksX2_findBarred_0 10 rfl rfl)
theorem dX2_findBarred_11 : decode cX2_findBarred 11 = .ok (.getfield 46, 3) := dk_180 0 46 (dk_at dksX2_findBarred_0 11 rfl rfl)
theorem dX2_findBarred_14 : decode cX2_findBarred 14 = .ok (.iload_n 1, 1) := dk_27 (dk_at dksX2_findBarred_0 14 rfl rfl)
theorem dX2_findBarred_15 : decode cX2_findBarred 15 = .ok (.iconst 0, 1) := dk_3 (dk_at dksX2_findBarred_0 15 rfl rfl)
theorem dX2_findBarred_16 : decode cX2_findBarred 16 = .ok (.iastore, 1) := dk_79 (dk_at dksX2_findBarred_0 16 rfl rfl)
theorem dX2_findBarred_17 : decode cX2_findBarred 17 = .ok (.aload_n 0, 1) := dk_42 (dk_at dksX2_findBarred_0 17 rfl rfl)
theorem dX2_findBarred_18 : decode cX2_findBarred 18 = .ok (.getfield 49, 3) := dk_180 0 49 (dk_at dksX2_findBarred_0 18 rfl rfl)
theorem dX2_findBarred_21 : decode cX2_findBarred 21 = .ok (.iload_n 1, 1) := dk_27 (dk_at dksX2_findBarred_0 21 rfl rfl)
theorem dX2_findBarred_22 : decode cX2_findBarred 22 = .ok (.aload_n 0, 1) := dk_42 (dk_at dksX2_findBarred_0 22 rfl rfl)
theorem dX2_findBarred_23 : decode cX2_findBarred 23 = .ok (.aload_n 0, 1) := dk_42 (dk_at dksX2_findBarred_0 23 rfl rfl)
theorem dX2_findBarred_24 : decode cX2_findBarred 24 = .ok (.getfield 7, 3) := dk_180 0 7 (dk_at dksX2_findBarred_1 0 rfl rfl)
theorem dX2_findBarred_27 : decode cX2_findBarred 27 = .ok (.aload_n 0, 1) := dk_42 (dk_at dksX2_findBarred_1 3 rfl rfl)
theorem dX2_findBarred_28 : decode cX2_findBarred 28 = .ok (.getfield 43, 3) := dk_180 0 43 (dk_at dksX2_findBarred_1 4 rfl rfl)
theorem dX2_findBarred_31 : decode cX2_findBarred 31 = .ok (.iload_n 1, 1) := dk_27 (dk_at dksX2_findBarred_1 7 rfl rfl)
theorem dX2_findBarred_32 : decode cX2_findBarred 32 = .ok (.iaload, 1) := dk_46 (dk_at dksX2_findBarred_1 8 rfl rfl)
theorem dX2_findBarred_33 : decode cX2_findBarred 33 = .ok (.invokestatic 87, 3) := dk_184 0 87 (dk_at dksX2_findBarred_1 9 rfl rfl)
theorem dX2_findBarred_36 : decode cX2_findBarred 36 = .ok (.iaload, 1) := dk_46 (dk_at dksX2_findBarred_1 12 rfl rfl)
theorem dX2_findBarred_37 : decode cX2_findBarred 37 = .ok (.invokevirtual 312, 3) := dk_182 1 56 (dk_at dksX2_findBarred_1 13 rfl rfl)
theorem dX2_findBarred_40 : decode cX2_findBarred 40 = .ok (.iastore, 1) := dk_79 (dk_at dksX2_findBarred_1 16 rfl rfl)
theorem dX2_findBarred_41 : decode cX2_findBarred 41 = .ok (.iconst 0, 1) := dk_3 (dk_at dksX2_findBarred_1 17 rfl rfl)
theorem dX2_findBarred_42 : decode cX2_findBarred 42 = .ok (.istore_n 2, 1) := dk_61 (dk_at dksX2_findBarred_1 18 rfl rfl)
theorem dX2_findBarred_43 : decode cX2_findBarred 43 = .ok (.iload_n 2, 1) := dk_28 (dk_at dksX2_findBarred_1 19 rfl rfl)
theorem dX2_findBarred_44 : decode cX2_findBarred 44 = .ok (.aload_n 0, 1) := dk_42 (dk_at dksX2_findBarred_1 20 rfl rfl)
theorem dX2_findBarred_45 : decode cX2_findBarred 45 = .ok (.getfield 309, 3) := dk_180 1 53 (dk_at dksX2_findBarred_1 21 rfl rfl)
theorem dX2_findBarred_48 : decode cX2_findBarred 48 = .ok (.if_icmp .ge 45, 3) := dk_162 0 45 (dk_at dksX2_findBarred_2 0 rfl rfl)
theorem dX2_findBarred_51 : decode cX2_findBarred 51 = .ok (.iload_n 1, 1) := dk_27 (dk_at dksX2_findBarred_2 3 rfl rfl)
theorem dX2_findBarred_52 : decode cX2_findBarred 52 = .ok (.iload_n 2, 1) := dk_28 (dk_at dksX2_findBarred_2 4 rfl rfl)
theorem dX2_findBarred_53 : decode cX2_findBarred 53 = .ok (.if_icmp .eq 34, 3) := dk_159 0 34 (dk_at dksX2_findBarred_2 5 rfl rfl)
theorem dX2_findBarred_56 : decode cX2_findBarred 56 = .ok (.aload_n 0, 1) := dk_42 (dk_at dksX2_findBarred_2 8 rfl rfl)
theorem dX2_findBarred_57 : decode cX2_findBarred 57 = .ok (.aload_n 0, 1) := dk_42 (dk_at dksX2_findBarred_2 9 rfl rfl)
theorem dX2_findBarred_58 : decode cX2_findBarred 58 = .ok (.getfield 43, 3) := dk_180 0 43 (dk_at dksX2_findBarred_2 10 rfl rfl)
theorem dX2_findBarred_61 : decode cX2_findBarred 61 = .ok (.iload_n 1, 1) := dk_27 (dk_at dksX2_findBarred_2 13 rfl rfl)
theorem dX2_findBarred_62 : decode cX2_findBarred 62 = .ok (.iaload, 1) := dk_46 (dk_at dksX2_findBarred_2 14 rfl rfl)
theorem dX2_findBarred_63 : decode cX2_findBarred 63 = .ok (.aload_n 0, 1) := dk_42 (dk_at dksX2_findBarred_2 15 rfl rfl)
theorem dX2_findBarred_64 : decode cX2_findBarred 64 = .ok (.getfield 43, 3) := dk_180 0 43 (dk_at dksX2_findBarred_2 16 rfl rfl)
theorem dX2_findBarred_67 : decode cX2_findBarred 67 = .ok (.iload_n 2, 1) := dk_28 (dk_at dksX2_findBarred_2 19 rfl rfl)
theorem dX2_findBarred_68 : decode cX2_findBarred 68 = .ok (.iaload, 1) := dk_46 (dk_at dksX2_findBarred_2 20 rfl rfl)
theorem dX2_findBarred_69 : decode cX2_findBarred 69 = .ok (.invokevirtual 315, 3) := dk_182 1 59 (dk_at dksX2_findBarred_2 21 rfl rfl)
theorem dX2_findBarred_72 : decode cX2_findBarred 72 = .ok (.ifCond .eq 15, 3) := dk_153 0 15 (dk_at dksX2_findBarred_3 0 rfl rfl)
theorem dX2_findBarred_75 : decode cX2_findBarred 75 = .ok (.aload_n 0, 1) := dk_42 (dk_at dksX2_findBarred_3 3 rfl rfl)
theorem dX2_findBarred_76 : decode cX2_findBarred 76 = .ok (.getfield 46, 3) := dk_180 0 46 (dk_at dksX2_findBarred_3 4 rfl rfl)
theorem dX2_findBarred_79 : decode cX2_findBarred 79 = .ok (.iload_n 1, 1) := dk_27 (dk_at dksX2_findBarred_3 7 rfl rfl)
theorem dX2_findBarred_80 : decode cX2_findBarred 80 = .ok (.dup2, 1) := dk_92 (dk_at dksX2_findBarred_3 8 rfl rfl)
theorem dX2_findBarred_81 : decode cX2_findBarred 81 = .ok (.iaload, 1) := dk_46 (dk_at dksX2_findBarred_3 9 rfl rfl)
theorem dX2_findBarred_82 : decode cX2_findBarred 82 = .ok (.iconst 1, 1) := dk_4 (dk_at dksX2_findBarred_3 10 rfl rfl)
theorem dX2_findBarred_83 : decode cX2_findBarred 83 = .ok (.iload_n 2, 1) := dk_28 (dk_at dksX2_findBarred_3 11 rfl rfl)
theorem dX2_findBarred_84 : decode cX2_findBarred 84 = .ok (.ishl, 1) := dk_120 (dk_at dksX2_findBarred_3 12 rfl rfl)
theorem dX2_findBarred_85 : decode cX2_findBarred 85 = .ok (.ior, 1) := dk_128 (dk_at dksX2_findBarred_3 13 rfl rfl)
theorem dX2_findBarred_86 : decode cX2_findBarred 86 = .ok (.iastore, 1) := dk_79 (dk_at dksX2_findBarred_3 14 rfl rfl)
theorem dX2_findBarred_87 : decode cX2_findBarred 87 = .ok (.iinc 2 1, 3) := dk_132 2 1 (dk_at dksX2_findBarred_3 15 rfl rfl)
theorem dX2_findBarred_90 : decode cX2_findBarred 90 = .ok (.goto (-47), 3) := dk_167 255 209 (dk_at dksX2_findBarred_3 18 rfl rfl)
theorem dX2_findBarred_93 : decode cX2_findBarred 93 = .ok (.iinc 1 1, 3) := dk_132 1 1 (dk_at dksX2_findBarred_3 21 rfl rfl)
theorem dX2_findBarred_96 : decode cX2_findBarred 96 = .ok (.goto (-94), 3) := dk_167 255 162 (dk_at dksX2_findBarred_4 0 rfl rfl)
theorem dX2_findBarred_99 : decode cX2_findBarred 99 = .ok (.return_, 1) := dk_177 (dk_at dksX2_findBarred_4 3 rfl rfl)
def dkwX2_manyOf_3 : List UInt8 := [180, 0, 16, 29, 5, 96, 46, 172, 132, 2, 1, 167, 255, 177, 4, 172]
abbrev dktX2_manyOf_3 : List UInt8 := dkwX2_manyOf_3 ++ []
def dkwX2_manyOf_2 : List UInt8 := [180, 0, 16, 29, 46, 6, 160, 0, 24, 42, 180, 0, 16, 29, 4, 96, 46, 27, 160, 0, 12, 42]
abbrev dktX2_manyOf_2 : List UInt8 := dkwX2_manyOf_2 ++ dktX2_manyOf_3
def dkwX2_manyOf_1 : List UInt8 := [46, 104, 46, 162, 0, 57, 17, 2, 188, 42, 180, 0, 7, 7, 46, 104, 4, 96, 7, 28, 104, 96, 62, 42]
abbrev dktX2_manyOf_1 : List UInt8 := dkwX2_manyOf_1 ++ dktX2_manyOf_2
def dkwX2_manyOf_0 : List UInt8 := [3, 61, 42, 180, 0, 7, 7, 46, 155, 0, 76, 28, 42, 180, 0, 16, 17, 2, 188, 42, 180, 0, 7, 7]
abbrev dktX2_manyOf_0 : List UInt8 := dkwX2_manyOf_0 ++ dktX2_manyOf_1
theorem dksX2_manyOf_0 : cX2_manyOf.data.toList.drop 0 = dktX2_manyOf_0 := by decide +kernel
theorem dksX2_manyOf_1 : cX2_manyOf.data.toList.drop 24 = dktX2_manyOf_1 := dk_seg dksX2_manyOf_0 24 rfl rfl
theorem dksX2_manyOf_2 : cX2_manyOf.data.toList.drop 48 = dktX2_manyOf_2 := dk_seg dksX2_manyOf_1 24 rfl rfl
theorem dksX2_manyOf_3 : cX2_manyOf.data.toList.drop 70 = dktX2_manyOf_3 := dk_seg dksX2_manyOf_2 22 rfl rfl
theorem dX2_manyOf_0 : decode cX2_manyOf 0 = .ok (.iconst 0, 1) := dk_3 (dk_at dksX2_manyOf_0 0 rfl rfl)
theorem dX2_manyOf_1 : decode cX2_manyOf 1 = .ok (.istore_n 2, 1) := dk_61 (dk_at dksX2_manyOf_0 1 rfl rfl)
theorem dX2_manyOf_2 : decode cX2_manyOf 2 = .ok (.aload_n 0, 1) := dk_42 (dk_at dksX2_manyOf_0 2 rfl rfl)
theorem dX2_manyOf_3 : decode cX2_manyOf 3 = .ok (.getfield 7, 3) := dk_180 0 7 (dk_at dksX2_manyOf_0 3 rfl rfl)
theorem dX2_manyOf_6 : decode cX2_manyOf 6 = .ok (.iconst 4, 1) := dk_7 (dk_at dksX2_manyOf_0 6 rfl rfl)
theorem dX2_manyOf_7 : decode cX2_manyOf 7 = .ok (.iaload, 1) := dk_46 (dk_at dksX2_manyOf_0 7 rfl rfl)
theorem dX2_manyOf_8 : decode cX2_manyOf 8 = .ok (.ifCond .lt 76, 3) := dk_155 0 76 (dk_at dksX2_manyOf_0 8 rfl rfl)
theorem dX2_manyOf_11 : decode cX2_manyOf 11 = .ok (.iload_n 2, 1) := dk_28 (dk_at dksX2_manyOf_0 11 rfl rfl)
theorem dX2_manyOf_12 : decode cX2_manyOf 12 = .ok (.aload_n 0, 1) := dk_42 (dk_at dksX2_manyOf_0 12 rfl rfl)
theorem dX2_manyOf_13 : decode cX2_manyOf 13 = .ok (.getfield 16, 3) := dk_180 0 16 (dk_at dksX2_manyOf_0 13 rfl rfl)
theorem dX2_manyOf_16 : decode cX2_manyOf 16 = .ok (.sipush 700, 3) := dk_17 2 188 (dk_at dksX2_manyOf_0 16 rfl rfl)
theorem dX2_manyOf_19 : decode cX2_manyOf 19 = .ok (.aload_n 0, 1) := dk_42 (dk_at dksX2_manyOf_0 19 rfl rfl)
theorem dX2_manyOf_20 : decode cX2_manyOf 20 = .ok (.getfield 7, 3) := dk_180 0 7 (dk_at dksX2_manyOf_0 20 rfl rfl)
theorem dX2_manyOf_23 : decode cX2_manyOf 23 = .ok (.iconst 4, 1) := dk_7 (dk_at dksX2_manyOf_0 23 rfl rfl)
theorem dX2_manyOf_24 : decode cX2_manyOf 24 = .ok (.iaload, 1) := dk_46 (dk_at dksX2_manyOf_1 0 rfl rfl)
theorem dX2_manyOf_25 : decode cX2_manyOf 25 = .ok (.imul, 1) := dk_104 (dk_at dksX2_manyOf_1 1 rfl rfl)
theorem dX2_manyOf_26 : decode cX2_manyOf 26 = .ok (.iaload, 1) := dk_46 (dk_at dksX2_manyOf_1 2 rfl rfl)
theorem dX2_manyOf_27 : decode cX2_manyOf 27 = .ok (.if_icmp .ge 57, 3) := dk_162 0 57 (dk_at dksX2_manyOf_1 3 rfl rfl)
theorem dX2_manyOf_30 : decode cX2_manyOf 30 = .ok (.sipush 700, 3) := dk_17 2 188 (dk_at dksX2_manyOf_1 6 rfl rfl)
theorem dX2_manyOf_33 : decode cX2_manyOf 33 = .ok (.aload_n 0, 1) := dk_42 (dk_at dksX2_manyOf_1 9 rfl rfl)
theorem dX2_manyOf_34 : decode cX2_manyOf 34 = .ok (.getfield 7, 3) := dk_180 0 7 (dk_at dksX2_manyOf_1 10 rfl rfl)
theorem dX2_manyOf_37 : decode cX2_manyOf 37 = .ok (.iconst 4, 1) := dk_7 (dk_at dksX2_manyOf_1 13 rfl rfl)
theorem dX2_manyOf_38 : decode cX2_manyOf 38 = .ok (.iaload, 1) := dk_46 (dk_at dksX2_manyOf_1 14 rfl rfl)
theorem dX2_manyOf_39 : decode cX2_manyOf 39 = .ok (.imul, 1) := dk_104 (dk_at dksX2_manyOf_1 15 rfl rfl)
theorem dX2_manyOf_40 : decode cX2_manyOf 40 = .ok (.iconst 1, 1) := dk_4 (dk_at dksX2_manyOf_1 16 rfl rfl)
theorem dX2_manyOf_41 : decode cX2_manyOf 41 = .ok (.iadd, 1) := dk_96 (dk_at dksX2_manyOf_1 17 rfl rfl)
theorem dX2_manyOf_42 : decode cX2_manyOf 42 = .ok (.iconst 4, 1) := dk_7 (dk_at dksX2_manyOf_1 18 rfl rfl)
theorem dX2_manyOf_43 : decode cX2_manyOf 43 = .ok (.iload_n 2, 1) := dk_28 (dk_at dksX2_manyOf_1 19 rfl rfl)
theorem dX2_manyOf_44 : decode cX2_manyOf 44 = .ok (.imul, 1) := dk_104 (dk_at dksX2_manyOf_1 20 rfl rfl)
theorem dX2_manyOf_45 : decode cX2_manyOf 45 = .ok (.iadd, 1) := dk_96 (dk_at dksX2_manyOf_1 21 rfl rfl)
theorem dX2_manyOf_46 : decode cX2_manyOf 46 = .ok (.istore_n 3, 1) := dk_62 (dk_at dksX2_manyOf_1 22 rfl rfl)
theorem dX2_manyOf_47 : decode cX2_manyOf 47 = .ok (.aload_n 0, 1) := dk_42 (dk_at dksX2_manyOf_1 23 rfl rfl)
theorem dX2_manyOf_48 : decode cX2_manyOf 48 = .ok (.getfield 16, 3) := dk_180 0 16 (dk_at dksX2_manyOf_2 0 rfl rfl)
theorem dX2_manyOf_51 : decode cX2_manyOf 51 = .ok (.iload_n 3, 1) := dk_29 (dk_at dksX2_manyOf_2 3 rfl rfl)
theorem dX2_manyOf_52 : decode cX2_manyOf 52 = .ok (.iaload, 1) := dk_46 (dk_at dksX2_manyOf_2 4 rfl rfl)
theorem dX2_manyOf_53 : decode cX2_manyOf 53 = .ok (.iconst 3, 1) := dk_6 (dk_at dksX2_manyOf_2 5 rfl rfl)
theorem dX2_manyOf_54 : decode cX2_manyOf 54 = .ok (.if_icmp .ne 24, 3) := dk_160 0 24 (dk_at dksX2_manyOf_2 6 rfl rfl)
theorem dX2_manyOf_57 : decode cX2_manyOf 57 = .ok (.aload_n 0, 1) := dk_42 (dk_at dksX2_manyOf_2 9 rfl rfl)
theorem dX2_manyOf_58 : decode cX2_manyOf 58 = .ok (.getfield 16, 3) := dk_180 0 16 (dk_at dksX2_manyOf_2 10 rfl rfl)
theorem dX2_manyOf_61 : decode cX2_manyOf 61 = .ok (.iload_n 3, 1) := dk_29 (dk_at dksX2_manyOf_2 13 rfl rfl)
theorem dX2_manyOf_62 : decode cX2_manyOf 62 = .ok (.iconst 1, 1) := dk_4 (dk_at dksX2_manyOf_2 14 rfl rfl)
theorem dX2_manyOf_63 : decode cX2_manyOf 63 = .ok (.iadd, 1) := dk_96 (dk_at dksX2_manyOf_2 15 rfl rfl)
theorem dX2_manyOf_64 : decode cX2_manyOf 64 = .ok (.iaload, 1) := dk_46 (dk_at dksX2_manyOf_2 16 rfl rfl)
theorem dX2_manyOf_65 : decode cX2_manyOf 65 = .ok (.iload_n 1, 1) := dk_27 (dk_at dksX2_manyOf_2 17 rfl rfl)
theorem dX2_manyOf_66 : decode cX2_manyOf 66 = .ok (.if_icmp .ne 12, 3) := dk_160 0 12 (dk_at dksX2_manyOf_2 18 rfl rfl)
theorem dX2_manyOf_69 : decode cX2_manyOf 69 = .ok (.aload_n 0, 1) := dk_42 (dk_at dksX2_manyOf_2 21 rfl rfl)
theorem dX2_manyOf_70 : decode cX2_manyOf 70 = .ok (.getfield 16, 3) := dk_180 0 16 (dk_at dksX2_manyOf_3 0 rfl rfl)
theorem dX2_manyOf_73 : decode cX2_manyOf 73 = .ok (.iload_n 3, 1) := dk_29 (dk_at dksX2_manyOf_3 3 rfl rfl)
theorem dX2_manyOf_74 : decode cX2_manyOf 74 = .ok (.iconst 2, 1) := dk_5 (dk_at dksX2_manyOf_3 4 rfl rfl)
theorem dX2_manyOf_75 : decode cX2_manyOf 75 = .ok (.iadd, 1) := dk_96 (dk_at dksX2_manyOf_3 5 rfl rfl)
theorem dX2_manyOf_76 : decode cX2_manyOf 76 = .ok (.iaload, 1) := dk_46 (dk_at dksX2_manyOf_3 6 rfl rfl)
theorem dX2_manyOf_77 : decode cX2_manyOf 77 = .ok (.ireturn, 1) := dk_172 (dk_at dksX2_manyOf_3 7 rfl rfl)
theorem dX2_manyOf_78 : decode cX2_manyOf 78 = .ok (.iinc 2 1, 3) := dk_132 2 1 (dk_at dksX2_manyOf_3 8 rfl rfl)
theorem dX2_manyOf_81 : decode cX2_manyOf 81 = .ok (.goto (-79), 3) := dk_167 255 177 (dk_at dksX2_manyOf_3 11 rfl rfl)
theorem dX2_manyOf_84 : decode cX2_manyOf 84 = .ok (.iconst 1, 1) := dk_4 (dk_at dksX2_manyOf_3 14 rfl rfl)
theorem dX2_manyOf_85 : decode cX2_manyOf 85 = .ok (.ireturn, 1) := dk_172 (dk_at dksX2_manyOf_3 15 rfl rfl)
def dkwX2_isUnlike_2 : List UInt8 := [180, 0, 39, 3, 51, 172]
abbrev dktX2_isUnlike_2 : List UInt8 := dkwX2_isUnlike_2 ++ []
def dkwX2_isUnlike_1 : List UInt8 := [180, 0, 39, 3, 51, 153, 0, 5, 4, 172, 42, 28, 27, 182, 0, 106, 42, 29, 182, 0, 110, 42]
abbrev dktX2_isUnlike_1 : List UInt8 := dkwX2_isUnlike_1 ++ dktX2_isUnlike_2
def dkwX2_isUnlike_0 : List UInt8 := [42, 5, 182, 0, 103, 62, 29, 156, 0, 5, 3, 172, 42, 27, 28, 182, 0, 106, 42, 29, 182, 0, 110, 42]
abbrev dktX2_isUnlike_0 : List UInt8 := dkwX2_isUnlike_0 ++ dktX2_isUnlike_1
theorem dksX2_isUnlike_0 : cX2_isUnlike.data.toList.drop 0 = dktX2_isUnlike_0 := by decide +kernel
theorem dksX2_isUnlike_1 : cX2_isUnlike.data.toList.drop 24 = dktX2_isUnlike_1 := dk_seg dksX2_isUnlike_0 24 rfl rfl
theorem dksX2_isUnlike_2 : cX2_isUnlike.data.toList.drop 46 = dktX2_isUnlike_2 := dk_seg dksX2_isUnlike_1 22 rfl rfl
theorem dX2_isUnlike_0 : decode cX2_isUnlike 0 = .ok (.aload_n 0, 1) := dk_42 (dk_at dksX2_isUnlike_0 0 rfl rfl)
theorem dX2_isUnlike_1 : decode cX2_isUnlike 1 = .ok (.iconst 2, 1) := dk_5 (dk_at dksX2_isUnlike_0 1 rfl rfl)
theorem dX2_isUnlike_2 : decode cX2_isUnlike 2 = .ok (.invokevirtual 103, 3) := dk_182 0 103 (dk_at dksX2_isUnlike_0 2 rfl rfl)
theorem dX2_isUnlike_5 : decode cX2_isUnlike 5 = .ok (.istore_n 3, 1) := dk_62 (dk_at dksX2_isUnlike_0 5 rfl rfl)
theorem dX2_isUnlike_6 : decode cX2_isUnlike 6 = .ok (.iload_n 3, 1) := dk_29 (dk_at dksX2_isUnlike_0 6 rfl rfl)
theorem dX2_isUnlike_7 : decode cX2_isUnlike 7 = .ok (.ifCond .ge 5, 3) := dk_156 0 5 (dk_at dksX2_isUnlike_0 7 rfl rfl)
theorem dX2_isUnlike_10 : decode cX2_isUnlike 10 = .ok (.iconst 0, 1) := dk_3 (dk_at dksX2_isUnlike_0 10 rfl rfl)
theorem dX2_isUnlike_11 : decode cX2_isUnlike 11 = .ok (.ireturn, 1) := dk_172 (dk_at dksX2_isUnlike_0 11 rfl rfl)
theorem dX2_isUnlike_12 : decode cX2_isUnlike 12 = .ok (.aload_n 0, 1) := dk_42 (dk_at dksX2_isUnlike_0 12 rfl rfl)
theorem dX2_isUnlike_13 : decode cX2_isUnlike 13 = .ok (.iload_n 1, 1) := dk_27 (dk_at dksX2_isUnlike_0 13 rfl rfl)
theorem dX2_isUnlike_14 : decode cX2_isUnlike 14 = .ok (.iload_n 2, 1) := dk_28 (dk_at dksX2_isUnlike_0 14 rfl rfl)
theorem dX2_isUnlike_15 : decode cX2_isUnlike 15 = .ok (.invokevirtual 106, 3) := dk_182 0 106 (dk_at dksX2_isUnlike_0 15 rfl rfl)
theorem dX2_isUnlike_18 : decode cX2_isUnlike 18 = .ok (.aload_n 0, 1) := dk_42 (dk_at dksX2_isUnlike_0 18 rfl rfl)
theorem dX2_isUnlike_19 : decode cX2_isUnlike 19 = .ok (.iload_n 3, 1) := dk_29 (dk_at dksX2_isUnlike_0 19 rfl rfl)
theorem dX2_isUnlike_20 : decode cX2_isUnlike 20 = .ok (.invokevirtual 110, 3) := dk_182 0 110 (dk_at dksX2_isUnlike_0 20 rfl rfl)
theorem dX2_isUnlike_23 : decode cX2_isUnlike 23 = .ok (.aload_n 0, 1) := dk_42 (dk_at dksX2_isUnlike_0 23 rfl rfl)
theorem dX2_isUnlike_24 : decode cX2_isUnlike 24 = .ok (.getfield 39, 3) := dk_180 0 39 (dk_at dksX2_isUnlike_1 0 rfl rfl)
theorem dX2_isUnlike_27 : decode cX2_isUnlike 27 = .ok (.iconst 0, 1) := dk_3 (dk_at dksX2_isUnlike_1 3 rfl rfl)
theorem dX2_isUnlike_28 : decode cX2_isUnlike 28 = .ok (.baload, 1) := dk_51 (dk_at dksX2_isUnlike_1 4 rfl rfl)
theorem dX2_isUnlike_29 : decode cX2_isUnlike 29 = .ok (.ifCond .eq 5, 3) := dk_153 0 5 (dk_at dksX2_isUnlike_1 5 rfl rfl)
theorem dX2_isUnlike_32 : decode cX2_isUnlike 32 = .ok (.iconst 1, 1) := dk_4 (dk_at dksX2_isUnlike_1 8 rfl rfl)
theorem dX2_isUnlike_33 : decode cX2_isUnlike 33 = .ok (.ireturn, 1) := dk_172 (dk_at dksX2_isUnlike_1 9 rfl rfl)
theorem dX2_isUnlike_34 : decode cX2_isUnlike 34 = .ok (.aload_n 0, 1) := dk_42 (dk_at dksX2_isUnlike_1 10 rfl rfl)
theorem dX2_isUnlike_35 : decode cX2_isUnlike 35 = .ok (.iload_n 2, 1) := dk_28 (dk_at dksX2_isUnlike_1 11 rfl rfl)
theorem dX2_isUnlike_36 : decode cX2_isUnlike 36 = .ok (.iload_n 1, 1) := dk_27 (dk_at dksX2_isUnlike_1 12 rfl rfl)
theorem dX2_isUnlike_37 : decode cX2_isUnlike 37 = .ok (.invokevirtual 106, 3) := dk_182 0 106 (dk_at dksX2_isUnlike_1 13 rfl rfl)
theorem dX2_isUnlike_40 : decode cX2_isUnlike 40 = .ok (.aload_n 0, 1) := dk_42 (dk_at dksX2_isUnlike_1 16 rfl rfl)
theorem dX2_isUnlike_41 : decode cX2_isUnlike 41 = .ok (.iload_n 3, 1) := dk_29 (dk_at dksX2_isUnlike_1 17 rfl rfl)
theorem dX2_isUnlike_42 : decode cX2_isUnlike 42 = .ok (.invokevirtual 110, 3) := dk_182 0 110 (dk_at dksX2_isUnlike_1 18 rfl rfl)
theorem dX2_isUnlike_45 : decode cX2_isUnlike 45 = .ok (.aload_n 0, 1) := dk_42 (dk_at dksX2_isUnlike_1 21 rfl rfl)
theorem dX2_isUnlike_46 : decode cX2_isUnlike 46 = .ok (.getfield 39, 3) := dk_180 0 39 (dk_at dksX2_isUnlike_2 0 rfl rfl)
theorem dX2_isUnlike_49 : decode cX2_isUnlike 49 = .ok (.iconst 0, 1) := dk_3 (dk_at dksX2_isUnlike_2 3 rfl rfl)
theorem dX2_isUnlike_50 : decode cX2_isUnlike 50 = .ok (.baload, 1) := dk_51 (dk_at dksX2_isUnlike_2 4 rfl rfl)
theorem dX2_isUnlike_51 : decode cX2_isUnlike 51 = .ok (.ireturn, 1) := dk_172 (dk_at dksX2_isUnlike_2 5 rfl rfl)
def dkwX2_share_5 : List UInt8 := [79, 167, 255, 145, 28, 155, 0, 7, 4, 167, 0, 4, 3, 172]
abbrev dktX2_share_5 : List UInt8 := dkwX2_share_5 ++ []
def dkwX2_share_4 : List UInt8 := [180, 0, 52, 28, 46, 27, 161, 0, 9, 132, 2, 255, 167, 255, 158, 132, 2, 1, 42, 180, 0, 52, 28, 2]
abbrev dktX2_share_4 : List UInt8 := dkwX2_share_4 ++ dktX2_share_5
def dkwX2_share_3 : List UInt8 := [42, 180, 0, 52, 28, 92, 46, 4, 96, 79, 167, 255, 212, 42, 180, 0, 52, 28, 46, 29, 163, 0, 13, 42]
abbrev dktX2_share_3 : List UInt8 := dkwX2_share_3 ++ dktX2_share_4
def dkwX2_share_2 : List UInt8 := [42, 180, 0, 52, 28, 46, 27, 162, 0, 30, 42, 28, 42, 180, 0, 52, 28, 46, 182, 1, 65, 154, 0, 16]
abbrev dktX2_share_2 : List UInt8 := dkwX2_share_2 ++ dktX2_share_3
def dkwX2_share_1 : List UInt8 := [182, 1, 62, 62, 42, 180, 0, 52, 28, 92, 46, 4, 96, 79, 42, 180, 0, 52, 28, 46, 29, 163, 0, 40]
abbrev dktX2_share_1 : List UInt8 := dkwX2_share_1 ++ dktX2_share_2
def dkwX2_share_0 : List UInt8 := [3, 61, 42, 180, 0, 52, 3, 2, 79, 28, 155, 0, 113, 28, 42, 180, 1, 53, 162, 0, 105, 42, 28]
abbrev dktX2_share_0 : List UInt8 := dkwX2_share_0 ++ dktX2_share_1
theorem dksX2_share_0 : cX2_share.data.toList.drop 0 = dktX2_share_0 := by decide +kernel
theorem dksX2_share_1 : cX2_share.data.toList.drop 23 = dktX2_share_1 := dk_seg dksX2_share_0 23 rfl rfl
theorem dksX2_share_2 : cX2_share.data.toList.drop 47 = dktX2_share_2 := dk_seg dksX2_share_1 24 rfl rfl
theorem dksX2_share_3 : cX2_share.data.toList.drop 71 = dktX2_share_3 := dk_seg dksX2_share_2 24 rfl rfl
theorem dksX2_share_4 : cX2_share.data.toList.drop 95 = dktX2_share_4 := dk_seg dksX2_share_3 24 rfl rfl
theorem dksX2_share_5 : cX2_share.data.toList.drop 119 = dktX2_share_5 := dk_seg dksX2_share_4 24 rfl rfl
theorem dX2_share_0 : decode cX2_share 0 = .ok (.iconst 0, 1) := dk_3 (dk_at dksX2_share_0 0 rfl rfl)
theorem dX2_share_1 : decode cX2_share 1 = .ok (.istore_n 2, 1) := dk_61 (dk_at dksX2_share_0 1 rfl rfl)
theorem dX2_share_2 : decode cX2_share 2 = .ok (.aload_n 0, 1) := dk_42 (dk_at dksX2_share_0 2 rfl rfl)
theorem dX2_share_3 : decode cX2_share 3 = .ok (.getfield 52, 3) := dk_180 0 52 (dk_at dksX2_share_0 3 rfl rfl)
theorem dX2_share_6 : decode cX2_share 6 = .ok (.iconst 0, 1) := dk_3 (dk_at dksX2_share_0 6 rfl rfl)
theorem dX2_share_7 : decode cX2_share 7 = .ok (.iconst (-1), 1) := dk_2 (dk_at dksX2_share_0 7 rfl rfl)
theorem dX2_share_8 : decode cX2_share 8 = .ok (.iastore, 1) := dk_79 (dk_at dksX2_share_0 8 rfl rfl)
theorem dX2_share_9 : decode cX2_share 9 = .ok (.iload_n 2, 1) := dk_28 (dk_at dksX2_share_0 9 rfl rfl)
theorem dX2_share_10 : decode cX2_share 10 = .ok (.ifCond .lt 113, 3) := dk_155 0 113 (dk_at dksX2_share_0 10 rfl rfl)
theorem dX2_share_13 : decode cX2_share 13 = .ok (.iload_n 2, 1) := dk_28 (dk_at dksX2_share_0 13 rfl rfl)
theorem dX2_share_14 : decode cX2_share 14 = .ok (.aload_n 0, 1) := dk_42 (dk_at dksX2_share_0 14 rfl rfl)
theorem dX2_share_15 : decode cX2_share 15 = .ok (.getfield 309, 3) := dk_180 1 53 (dk_at dksX2_share_0 15 rfl rfl)
theorem dX2_share_18 : decode cX2_share 18 = .ok (.if_icmp .ge 105, 3) := dk_162 0 105 (dk_at dksX2_share_0 18 rfl rfl)
theorem dX2_share_21 : decode cX2_share 21 = .ok (.aload_n 0, 1) := dk_42 (dk_at dksX2_share_0 21 rfl rfl)
theorem dX2_share_22 : decode cX2_share 22 = .ok (.iload_n 2, 1) := dk_28 (dk_at dksX2_share_0 22 rfl rfl)
theorem dX2_share_23 : decode cX2_share 23 = .ok (.invokevirtual 318, 3) := dk_182 1 62 (dk_at dksX2_share_1 0 rfl rfl)
theorem dX2_share_26 : decode cX2_share 26 = .ok (.istore_n 3, 1) := dk_62 (dk_at dksX2_share_1 3 rfl rfl)
theorem dX2_share_27 : decode cX2_share 27 = .ok (.aload_n 0, 1) := dk_42 (dk_at dksX2_share_1 4 rfl rfl)
theorem dX2_share_28 : decode cX2_share 28 = .ok (.getfield 52, 3) := dk_180 0 52 (dk_at dksX2_share_1 5 rfl rfl)
theorem dX2_share_31 : decode cX2_share 31 = .ok (.iload_n 2, 1) := dk_28 (dk_at dksX2_share_1 8 rfl rfl)
theorem dX2_share_32 : decode cX2_share 32 = .ok (.dup2, 1) := dk_92 (dk_at dksX2_share_1 9 rfl rfl)
theorem dX2_share_33 : decode cX2_share 33 = .ok (.iaload, 1) := dk_46 (dk_at dksX2_share_1 10 rfl rfl)
theorem dX2_share_34 : decode cX2_share 34 = .ok (.iconst 1, 1) := dk_4 (dk_at dksX2_share_1 11 rfl rfl)
theorem dX2_share_35 : decode cX2_share 35 = .ok (.iadd, 1) := dk_96 (dk_at dksX2_share_1 12 rfl rfl)
theorem dX2_share_36 : decode cX2_share 36 = .ok (.iastore, 1) := dk_79 (dk_at dksX2_share_1 13 rfl rfl)
theorem dX2_share_37 : decode cX2_share 37 = .ok (.aload_n 0, 1) := dk_42 (dk_at dksX2_share_1 14 rfl rfl)
theorem dX2_share_38 : decode cX2_share 38 = .ok (.getfield 52, 3) := dk_180 0 52 (dk_at dksX2_share_1 15 rfl rfl)
theorem dX2_share_41 : decode cX2_share 41 = .ok (.iload_n 2, 1) := dk_28 (dk_at dksX2_share_1 18 rfl rfl)
theorem dX2_share_42 : decode cX2_share 42 = .ok (.iaload, 1) := dk_46 (dk_at dksX2_share_1 19 rfl rfl)
theorem dX2_share_43 : decode cX2_share 43 = .ok (.iload_n 3, 1) := dk_29 (dk_at dksX2_share_1 20 rfl rfl)
theorem dX2_share_44 : decode cX2_share 44 = .ok (.if_icmp .gt 40, 3) := dk_163 0 40 (dk_at dksX2_share_1 21 rfl rfl)
theorem dX2_share_47 : decode cX2_share 47 = .ok (.aload_n 0, 1) := dk_42 (dk_at dksX2_share_2 0 rfl rfl)
theorem dX2_share_48 : decode cX2_share 48 = .ok (.getfield 52, 3) := dk_180 0 52 (dk_at dksX2_share_2 1 rfl rfl)
theorem dX2_share_51 : decode cX2_share 51 = .ok (.iload_n 2, 1) := dk_28 (dk_at dksX2_share_2 4 rfl rfl)
theorem dX2_share_52 : decode cX2_share 52 = .ok (.iaload, 1) := dk_46 (dk_at dksX2_share_2 5 rfl rfl)
theorem dX2_share_53 : decode cX2_share 53 = .ok (.iload_n 1, 1) := dk_27 (dk_at dksX2_share_2 6 rfl rfl)
theorem dX2_share_54 : decode cX2_share 54 = .ok (.if_icmp .ge 30, 3) := dk_162 0 30 (dk_at dksX2_share_2 7 rfl rfl)
theorem dX2_share_57 : decode cX2_share 57 = .ok (.aload_n 0, 1) := dk_42 (dk_at dksX2_share_2 10 rfl rfl)
theorem dX2_share_58 : decode cX2_share 58 = .ok (.iload_n 2, 1) := dk_28 (dk_at dksX2_share_2 11 rfl rfl)
theorem dX2_share_59 : decode cX2_share 59 = .ok (.aload_n 0, 1) := dk_42 (dk_at dksX2_share_2 12 rfl rfl)
theorem dX2_share_60 : decode cX2_share 60 = .ok (.getfield 52, 3) := dk_180 0 52 (dk_at dksX2_share_2 13 rfl rfl)
theorem dX2_share_63 : decode cX2_share 63 = .ok (.iload_n 2, 1) := dk_28 (dk_at dksX2_share_2 16 rfl rfl)
theorem dX2_share_64 : decode cX2_share 64 = .ok (.iaload, 1) := dk_46 (dk_at dksX2_share_2 17 rfl rfl)
theorem dX2_share_65 : decode cX2_share 65 = .ok (.invokevirtual 321, 3) := dk_182 1 65 (dk_at dksX2_share_2 18 rfl rfl)
theorem dX2_share_68 : decode cX2_share 68 = .ok (.ifCond .ne 16, 3) := dk_154 0 16 (dk_at dksX2_share_2 21 rfl rfl)
theorem dX2_share_71 : decode cX2_share 71 = .ok (.aload_n 0, 1) := dk_42 (dk_at dksX2_share_3 0 rfl rfl)
theorem dX2_share_72 : decode cX2_share 72 = .ok (.getfield 52, 3) := dk_180 0 52 (dk_at dksX2_share_3 1 rfl rfl)
theorem dX2_share_75 : decode cX2_share 75 = .ok (.iload_n 2, 1) := dk_28 (dk_at dksX2_share_3 4 rfl rfl)
theorem dX2_share_76 : decode cX2_share 76 = .ok (.dup2, 1) := dk_92 (dk_at dksX2_share_3 5 rfl rfl)
theorem dX2_share_77 : decode cX2_share 77 = .ok (.iaload, 1) := dk_46 (dk_at dksX2_share_3 6 rfl rfl)
theorem dX2_share_78 : decode cX2_share 78 = .ok (.iconst 1, 1) := dk_4 (dk_at dksX2_share_3 7 rfl rfl)
theorem dX2_share_79 : decode cX2_share 79 = .ok (.iadd, 1) := dk_96 (dk_at dksX2_share_3 8 rfl rfl)
theorem dX2_share_80 : decode cX2_share 80 = .ok (.iastore, 1) := dk_79 (dk_at dksX2_share_3 9 rfl rfl)
theorem dX2_share_81 : decode cX2_share 81 = .ok (.goto (-44), 3) := dk_167 255 212 (dk_at dksX2_share_3 10 rfl rfl)
theorem dX2_share_84 : decode cX2_share 84 = .ok (.aload_n 0, 1) := dk_42 (dk_at dksX2_share_3 13 rfl rfl)
theorem dX2_share_85 : decode cX2_share 85 = .ok (.getfield 52, 3) := dk_180 0 52 (dk_at dksX2_share_3 14 rfl rfl)
theorem dX2_share_88 : decode cX2_share 88 = .ok (.iload_n 2, 1) := dk_28 (dk_at dksX2_share_3 17 rfl rfl)
theorem dX2_share_89 : decode cX2_share 89 = .ok (.iaload, 1) := dk_46 (dk_at dksX2_share_3 18 rfl rfl)
theorem dX2_share_90 : decode cX2_share 90 = .ok (.iload_n 3, 1) := dk_29 (dk_at dksX2_share_3 19 rfl rfl)
theorem dX2_share_91 : decode cX2_share 91 = .ok (.if_icmp .gt 13, 3) := dk_163 0 13 (dk_at dksX2_share_3 20 rfl rfl)
theorem dX2_share_94 : decode cX2_share 94 = .ok (.aload_n 0, 1) := dk_42 (dk_at dksX2_share_3 23 rfl rfl)
theorem dX2_share_95 : decode cX2_share 95 = .ok (.getfield 52, 3) := dk_180 0 52 (dk_at dksX2_share_4 0 rfl rfl)
theorem dX2_share_98 : decode cX2_share 98 = .ok (.iload_n 2, 1) := dk_28 (dk_at dksX2_share_4 3 rfl rfl)
theorem dX2_share_99 : decode cX2_share 99 = .ok (.iaload, 1) := dk_46 (dk_at dksX2_share_4 4 rfl rfl)
theorem dX2_share_100 : decode cX2_share 100 = .ok (.iload_n 1, 1) := dk_27 (dk_at dksX2_share_4 5 rfl rfl)
theorem dX2_share_101 : decode cX2_share 101 = .ok (.if_icmp .lt 9, 3) := dk_161 0 9 (dk_at dksX2_share_4 6 rfl rfl)
theorem dX2_share_104 : decode cX2_share 104 = .ok (.iinc 2 (-1), 3) := dk_132 2 255 (dk_at dksX2_share_4 9 rfl rfl)
theorem dX2_share_107 : decode cX2_share 107 = .ok (.goto (-98), 3) := dk_167 255 158 (dk_at dksX2_share_4 12 rfl rfl)
theorem dX2_share_110 : decode cX2_share 110 = .ok (.iinc 2 1, 3) := dk_132 2 1 (dk_at dksX2_share_4 15 rfl rfl)
theorem dX2_share_113 : decode cX2_share 113 = .ok (.aload_n 0, 1) := dk_42 (dk_at dksX2_share_4 18 rfl rfl)
theorem dX2_share_114 : decode cX2_share 114 = .ok (.getfield 52, 3) := dk_180 0 52 (dk_at dksX2_share_4 19 rfl rfl)
theorem dX2_share_117 : decode cX2_share 117 = .ok (.iload_n 2, 1) := dk_28 (dk_at dksX2_share_4 22 rfl rfl)
theorem dX2_share_118 : decode cX2_share 118 = .ok (.iconst (-1), 1) := dk_2 (dk_at dksX2_share_4 23 rfl rfl)
theorem dX2_share_119 : decode cX2_share 119 = .ok (.iastore, 1) := dk_79 (dk_at dksX2_share_5 0 rfl rfl)
theorem dX2_share_120 : decode cX2_share 120 = .ok (.goto (-111), 3) := dk_167 255 145 (dk_at dksX2_share_5 1 rfl rfl)
theorem dX2_share_123 : decode cX2_share 123 = .ok (.iload_n 2, 1) := dk_28 (dk_at dksX2_share_5 4 rfl rfl)
theorem dX2_share_124 : decode cX2_share 124 = .ok (.ifCond .lt 7, 3) := dk_155 0 7 (dk_at dksX2_share_5 5 rfl rfl)
theorem dX2_share_127 : decode cX2_share 127 = .ok (.iconst 1, 1) := dk_4 (dk_at dksX2_share_5 8 rfl rfl)
theorem dX2_share_128 : decode cX2_share 128 = .ok (.goto 4, 3) := dk_167 0 4 (dk_at dksX2_share_5 9 rfl rfl)
theorem dX2_share_131 : decode cX2_share 131 = .ok (.iconst 0, 1) := dk_3 (dk_at dksX2_share_5 12 rfl rfl)
theorem dX2_share_132 : decode cX2_share 132 = .ok (.ireturn, 1) := dk_172 (dk_at dksX2_share_5 13 rfl rfl)
def dkwX2_used_1 : List UInt8 := [46, 4, 96, 61, 132, 3, 1, 167, 255, 229, 28, 172]
abbrev dktX2_used_1 : List UInt8 := dkwX2_used_1 ++ []
def dkwX2_used_0 : List UInt8 := [3, 61, 3, 62, 29, 27, 162, 0, 28, 42, 180, 0, 52, 29, 46, 28, 161, 0, 12, 42, 180, 0, 52, 29]
abbrev dktX2_used_0 : List UInt8 := dkwX2_used_0 ++ dktX2_used_1
theorem dksX2_used_0 : cX2_used.data.toList.drop 0 = dktX2_used_0 := by decide +kernel
theorem dksX2_used_1 : cX2_used.data.toList.drop 24 = dktX2_used_1 := dk_seg dksX2_used_0 24 rfl rfl
theorem dX2_used_0 : decode cX2_used 0 = .ok (.iconst 0, 1) := dk_3 (dk_at dksX2_used_0 0 rfl rfl)
theorem dX2_used_1 : decode cX2_used 1 = .ok (.istore_n 2, 1) := dk_61 (dk_at dksX2_used_0 1 rfl rfl)
theorem dX2_used_2 : decode cX2_used 2 = .ok (.iconst 0, 1) := dk_3 (dk_at dksX2_used_0 2 rfl rfl)
theorem dX2_used_3 : decode cX2_used 3 = .ok (.istore_n 3, 1) := dk_62 (dk_at dksX2_used_0 3 rfl rfl)
theorem dX2_used_4 : decode cX2_used 4 = .ok (.iload_n 3, 1) := dk_29 (dk_at dksX2_used_0 4 rfl rfl)
theorem dX2_used_5 : decode cX2_used 5 = .ok (.iload_n 1, 1) := dk_27 (dk_at dksX2_used_0 5 rfl rfl)
theorem dX2_used_6 : decode cX2_used 6 = .ok (.if_icmp .ge 28, 3) := dk_162 0 28 (dk_at dksX2_used_0 6 rfl rfl)
theorem dX2_used_9 : decode cX2_used 9 = .ok (.aload_n 0, 1) := dk_42 (dk_at dksX2_used_0 9 rfl rfl)
theorem dX2_used_10 : decode cX2_used 10 = .ok (.getfield 52, 3) := dk_180 0 52 (dk_at dksX2_used_0 10 rfl rfl)
theorem dX2_used_13 : decode cX2_used 13 = .ok (.iload_n 3, 1) := dk_29 (dk_at dksX2_used_0 13 rfl rfl)
theorem dX2_used_14 : decode cX2_used 14 = .ok (.iaload, 1) := dk_46 (dk_at dksX2_used_0 14 rfl rfl)
theorem dX2_used_15 : decode cX2_used 15 = .ok (.iload_n 2, 1) := dk_28 (dk_at dksX2_used_0 15 rfl rfl)
theorem dX2_used_16 : decode cX2_used 16 = .ok (.if_icmp .lt 12, 3) := dk_161 0 12 (dk_at dksX2_used_0 16 rfl rfl)
theorem dX2_used_19 : decode cX2_used 19 = .ok (.aload_n 0, 1) := dk_42 (dk_at dksX2_used_0 19 rfl rfl)
theorem dX2_used_20 : decode cX2_used 20 = .ok (.getfield 52, 3) := dk_180 0 52 (dk_at dksX2_used_0 20 rfl rfl)
theorem dX2_used_23 : decode cX2_used 23 = .ok (.iload_n 3, 1) := dk_29 (dk_at dksX2_used_0 23 rfl rfl)
theorem dX2_used_24 : decode cX2_used 24 = .ok (.iaload, 1) := dk_46 (dk_at dksX2_used_1 0 rfl rfl)
theorem dX2_used_25 : decode cX2_used 25 = .ok (.iconst 1, 1) := dk_4 (dk_at dksX2_used_1 1 rfl rfl)
theorem dX2_used_26 : decode cX2_used 26 = .ok (.iadd, 1) := dk_96 (dk_at dksX2_used_1 2 rfl rfl)
theorem dX2_used_27 : decode cX2_used 27 = .ok (.istore_n 2, 1) := dk_61 (dk_at dksX2_used_1 3 rfl rfl)
theorem dX2_used_28 : decode cX2_used 28 = .ok (.iinc 3 1, 3) := dk_132 3 1 (dk_at dksX2_used_1 4 rfl rfl)
theorem dX2_used_31 : decode cX2_used 31 = .ok (.goto (-27), 3) := dk_167 255 229 (dk_at dksX2_used_1 7 rfl rfl)
theorem dX2_used_34 : decode cX2_used 34 = .ok (.iload_n 2, 1) := dk_28 (dk_at dksX2_used_1 10 rfl rfl)
theorem dX2_used_35 : decode cX2_used 35 = .ok (.ireturn, 1) := dk_172 (dk_at dksX2_used_1 11 rfl rfl)
def dkwX2_canHave_4 : List UInt8 := [180, 0, 49, 27, 46, 163, 0, 7, 4, 167, 0, 4, 3, 172]
abbrev dktX2_canHave_4 : List UInt8 := dkwX2_canHave_4 ++ []
def dkwX2_canHave_3 : List UInt8 := [184, 0, 87, 46, 160, 0, 7, 4, 167, 0, 4, 3, 96, 62, 132, 4, 1, 167, 255, 176, 29, 42]
abbrev dktX2_canHave_3 : List UInt8 := dkwX2_canHave_3 ++ dktX2_canHave_4
def dkwX2_canHave_2 : List UInt8 := [180, 0, 7, 42, 180, 0, 43, 21, 4, 46, 184, 0, 87, 46, 42, 180, 0, 7, 42, 180, 0, 43, 27, 46]
abbrev dktX2_canHave_2 : List UInt8 := dkwX2_canHave_2 ++ dktX2_canHave_3
def dkwX2_canHave_1 : List UInt8 := [167, 0, 60, 42, 180, 0, 46, 27, 46, 21, 4, 122, 4, 126, 4, 160, 0, 5, 3, 172, 29, 42]
abbrev dktX2_canHave_1 : List UInt8 := dkwX2_canHave_1 ++ dktX2_canHave_2
def dkwX2_canHave_0 : List UInt8 := [4, 62, 3, 54, 4, 21, 4, 27, 162, 0, 80, 42, 180, 0, 52, 21, 4, 46, 28, 159, 0, 6]
abbrev dktX2_canHave_0 : List UInt8 := dkwX2_canHave_0 ++ dktX2_canHave_1
theorem dksX2_canHave_0 : cX2_canHave.data.toList.drop 0 = dktX2_canHave_0 := by decide +kernel
theorem dksX2_canHave_1 : cX2_canHave.data.toList.drop 22 = dktX2_canHave_1 := dk_seg dksX2_canHave_0 22 rfl rfl
theorem dksX2_canHave_2 : cX2_canHave.data.toList.drop 44 = dktX2_canHave_2 := dk_seg dksX2_canHave_1 22 rfl rfl
theorem dksX2_canHave_3 : cX2_canHave.data.toList.drop 68 = dktX2_canHave_3 := dk_seg dksX2_canHave_2 24 rfl rfl
theorem dksX2_canHave_4 : cX2_canHave.data.toList.drop 90 = dktX2_canHave_4 := dk_seg dksX2_canHave_3 22 rfl rfl
theorem dX2_canHave_0 : decode cX2_canHave 0 = .ok (.iconst 1, 1) := dk_4 (dk_at dksX2_canHave_0 0 rfl rfl)
theorem dX2_canHave_1 : decode cX2_canHave 1 = .ok (.istore_n 3, 1) := dk_62 (dk_at dksX2_canHave_0 1 rfl rfl)
theorem dX2_canHave_2 : decode cX2_canHave 2 = .ok (.iconst 0, 1) := dk_3 (dk_at dksX2_canHave_0 2 rfl rfl)
theorem dX2_canHave_3 : decode cX2_canHave 3 = .ok (.istore 4, 2) := dk_54 4 (dk_at dksX2_canHave_0 3 rfl rfl)
theorem dX2_canHave_5 : decode cX2_canHave 5 = .ok (.iload 4, 2) := dk_21 4 (dk_at dksX2_canHave_0 5 rfl rfl)
theorem dX2_canHave_7 : decode cX2_canHave 7 = .ok (.iload_n 1, 1) := dk_27 (dk_at dksX2_canHave_0 7 rfl rfl)
theorem dX2_canHave_8 : decode cX2_canHave 8 = .ok (.if_icmp .ge 80, 3) := dk_162 0 80 (dk_at dksX2_canHave_0 8 rfl rfl)
theorem dX2_canHave_11 : decode cX2_canHave 11 = .ok (.aload_n 0, 1) := dk_42 (dk_at dksX2_canHave_0 11 rfl rfl)
theorem dX2_canHave_12 : decode cX2_canHave 12 = .ok (.getfield 52, 3) := dk_180 0 52 (dk_at dksX2_canHave_0 12 rfl rfl)
theorem dX2_canHave_15 : decode cX2_canHave 15 = .ok (.iload 4, 2) := dk_21 4 (dk_at dksX2_canHave_0 15 rfl rfl)
theorem dX2_canHave_17 : decode cX2_canHave 17 = .ok (.iaload, 1) := dk_46 (dk_at dksX2_canHave_0 17 rfl rfl)
theorem dX2_canHave_18 : decode cX2_canHave 18 = .ok (.iload_n 2, 1) := dk_28 (dk_at dksX2_canHave_0 18 rfl rfl)
theorem dX2_canHave_19 : decode cX2_canHave 19 = .ok (.if_icmp .eq 6, 3) := dk_159 0 6 (dk_at dksX2_canHave_0 19 rfl rfl)
theorem dX2_canHave_22 : decode cX2_canHave 22 = .ok (.goto 60, 3) := dk_167 0 60 (dk_at dksX2_canHave_1 0 rfl rfl)
theorem dX2_canHave_25 : decode cX2_canHave 25 = .ok (.aload_n 0, 1) := dk_42 (dk_at dksX2_canHave_1 3 rfl rfl)
theorem dX2_canHave_26 : decode cX2_canHave 26 = .ok (.getfield 46, 3) := dk_180 0 46 (dk_at dksX2_canHave_1 4 rfl rfl)
theorem dX2_canHave_29 : decode cX2_canHave 29 = .ok (.iload_n 1, 1) := dk_27 (dk_at dksX2_canHave_1 7 rfl rfl)
theorem dX2_canHave_30 : decode cX2_canHave 30 = .ok (.iaload, 1) := dk_46 (dk_at dksX2_canHave_1 8 rfl rfl)
theorem dX2_canHave_31 : decode cX2_canHave 31 = .ok (.iload 4, 2) := dk_21 4 (dk_at dksX2_canHave_1 9 rfl rfl)
theorem dX2_canHave_33 : decode cX2_canHave 33 = .ok (.ishr, 1) := dk_122 (dk_at dksX2_canHave_1 11 rfl rfl)
theorem dX2_canHave_34 : decode cX2_canHave 34 = .ok (.iconst 1, 1) := dk_4 (dk_at dksX2_canHave_1 12 rfl rfl)
theorem dX2_canHave_35 : decode cX2_canHave 35 = .ok (.iand, 1) := dk_126 (dk_at dksX2_canHave_1 13 rfl rfl)
theorem dX2_canHave_36 : decode cX2_canHave 36 = .ok (.iconst 1, 1) := dk_4 (dk_at dksX2_canHave_1 14 rfl rfl)
theorem dX2_canHave_37 : decode cX2_canHave 37 = .ok (.if_icmp .ne 5, 3) := dk_160 0 5 (dk_at dksX2_canHave_1 15 rfl rfl)
theorem dX2_canHave_40 : decode cX2_canHave 40 = .ok (.iconst 0, 1) := dk_3 (dk_at dksX2_canHave_1 18 rfl rfl)
theorem dX2_canHave_41 : decode cX2_canHave 41 = .ok (.ireturn, 1) := dk_172 (dk_at dksX2_canHave_1 19 rfl rfl)
theorem dX2_canHave_42 : decode cX2_canHave 42 = .ok (.iload_n 3, 1) := dk_29 (dk_at dksX2_canHave_1 20 rfl rfl)
theorem dX2_canHave_43 : decode cX2_canHave 43 = .ok (.aload_n 0, 1) := dk_42 (dk_at dksX2_canHave_1 21 rfl rfl)
theorem dX2_canHave_44 : decode cX2_canHave 44 = .ok (.getfield 7, 3) := dk_180 0 7 (dk_at dksX2_canHave_2 0 rfl rfl)
theorem dX2_canHave_47 : decode cX2_canHave 47 = .ok (.aload_n 0, 1) := dk_42 (dk_at dksX2_canHave_2 3 rfl rfl)
theorem dX2_canHave_48 : decode cX2_canHave 48 = .ok (.getfield 43, 3) := dk_180 0 43 (dk_at dksX2_canHave_2 4 rfl rfl)
theorem dX2_canHave_51 : decode cX2_canHave 51 = .ok (.iload 4, 2) := dk_21 4 (dk_at dksX2_canHave_2 7 rfl rfl)
theorem dX2_canHave_53 : decode cX2_canHave 53 = .ok (.iaload, 1) := dk_46 (dk_at dksX2_canHave_2 9 rfl rfl)
theorem dX2_canHave_54 : decode cX2_canHave 54 = .ok (.invokestatic 87, 3) := dk_184 0 87 (dk_at dksX2_canHave_2 10 rfl rfl)
theorem dX2_canHave_57 : decode cX2_canHave 57 = .ok (.iaload, 1) := dk_46 (dk_at dksX2_canHave_2 13 rfl rfl)
theorem dX2_canHave_58 : decode cX2_canHave 58 = .ok (.aload_n 0, 1) := dk_42 (dk_at dksX2_canHave_2 14 rfl rfl)
theorem dX2_canHave_59 : decode cX2_canHave 59 = .ok (.getfield 7, 3) := dk_180 0 7 (dk_at dksX2_canHave_2 15 rfl rfl)
theorem dX2_canHave_62 : decode cX2_canHave 62 = .ok (.aload_n 0, 1) := dk_42 (dk_at dksX2_canHave_2 18 rfl rfl)
theorem dX2_canHave_63 : decode cX2_canHave 63 = .ok (.getfield 43, 3) := dk_180 0 43 (dk_at dksX2_canHave_2 19 rfl rfl)
theorem dX2_canHave_66 : decode cX2_canHave 66 = .ok (.iload_n 1, 1) := dk_27 (dk_at dksX2_canHave_2 22 rfl rfl)
theorem dX2_canHave_67 : decode cX2_canHave 67 = .ok (.iaload, 1) := dk_46 (dk_at dksX2_canHave_2 23 rfl rfl)
theorem dX2_canHave_68 : decode cX2_canHave 68 = .ok (.invokestatic 87, 3) := dk_184 0 87 (dk_at dksX2_canHave_3 0 rfl rfl)
theorem dX2_canHave_71 : decode cX2_canHave 71 = .ok (.iaload, 1) := dk_46 (dk_at dksX2_canHave_3 3 rfl rfl)
theorem dX2_canHave_72 : decode cX2_canHave 72 = .ok (.if_icmp .ne 7, 3) := dk_160 0 7 (dk_at dksX2_canHave_3 4 rfl rfl)
theorem dX2_canHave_75 : decode cX2_canHave 75 = .ok (.iconst 1, 1) := dk_4 (dk_at dksX2_canHave_3 7 rfl rfl)
theorem dX2_canHave_76 : decode cX2_canHave 76 = .ok (.goto 4, 3) := dk_167 0 4 (dk_at dksX2_canHave_3 8 rfl rfl)
theorem dX2_canHave_79 : decode cX2_canHave 79 = .ok (.iconst 0, 1) := dk_3 (dk_at dksX2_canHave_3 11 rfl rfl)
theorem dX2_canHave_80 : decode cX2_canHave 80 = .ok (.iadd, 1) := dk_96 (dk_at dksX2_canHave_3 12 rfl rfl)
theorem dX2_canHave_81 : decode cX2_canHave 81 = .ok (.istore_n 3, 1) := dk_62 (dk_at dksX2_canHave_3 13 rfl rfl)
theorem dX2_canHave_82 : decode cX2_canHave 82 = .ok (.iinc 4 1, 3) := dk_132 4 1 (dk_at dksX2_canHave_3 14 rfl rfl)
theorem dX2_canHave_85 : decode cX2_canHave 85 = .ok (.goto (-80), 3) := dk_167 255 176 (dk_at dksX2_canHave_3 17 rfl rfl)
theorem dX2_canHave_88 : decode cX2_canHave 88 = .ok (.iload_n 3, 1) := dk_29 (dk_at dksX2_canHave_3 20 rfl rfl)
theorem dX2_canHave_89 : decode cX2_canHave 89 = .ok (.aload_n 0, 1) := dk_42 (dk_at dksX2_canHave_3 21 rfl rfl)
theorem dX2_canHave_90 : decode cX2_canHave 90 = .ok (.getfield 49, 3) := dk_180 0 49 (dk_at dksX2_canHave_4 0 rfl rfl)
theorem dX2_canHave_93 : decode cX2_canHave 93 = .ok (.iload_n 1, 1) := dk_27 (dk_at dksX2_canHave_4 3 rfl rfl)
theorem dX2_canHave_94 : decode cX2_canHave 94 = .ok (.iaload, 1) := dk_46 (dk_at dksX2_canHave_4 4 rfl rfl)
theorem dX2_canHave_95 : decode cX2_canHave 95 = .ok (.if_icmp .gt 7, 3) := dk_163 0 7 (dk_at dksX2_canHave_4 5 rfl rfl)
theorem dX2_canHave_98 : decode cX2_canHave 98 = .ok (.iconst 1, 1) := dk_4 (dk_at dksX2_canHave_4 8 rfl rfl)
theorem dX2_canHave_99 : decode cX2_canHave 99 = .ok (.goto 4, 3) := dk_167 0 4 (dk_at dksX2_canHave_4 9 rfl rfl)
theorem dX2_canHave_102 : decode cX2_canHave 102 = .ok (.iconst 0, 1) := dk_3 (dk_at dksX2_canHave_4 12 rfl rfl)
theorem dX2_canHave_103 : decode cX2_canHave 103 = .ok (.ireturn, 1) := dk_172 (dk_at dksX2_canHave_4 13 rfl rfl)
def dkwX2_rules_1 : List UInt8 := [180, 0, 7, 16, 7, 27, 79, 42, 180, 0, 7, 16, 8, 28, 79, 4, 172]
abbrev dktX2_rules_1 : List UInt8 := dkwX2_rules_1 ++ []
def dkwX2_rules_0 : List UInt8 := [27, 3, 16, 9, 184, 0, 75, 153, 0, 13, 28, 4, 16, 99, 184, 0, 75, 154, 0, 5, 3, 172, 42]
abbrev dktX2_rules_0 : List UInt8 := dkwX2_rules_0 ++ dktX2_rules_1
theorem dksX2_rules_0 : cX2_rules.data.toList.drop 0 = dktX2_rules_0 := by decide +kernel
theorem dksX2_rules_1 : cX2_rules.data.toList.drop 23 = dktX2_rules_1 := dk_seg dksX2_rules_0 23 rfl rfl
theorem dX2_rules_0 : decode cX2_rules 0 = .ok (.iload_n 1, 1) := dk_27 (dk_at dksX2_rules_0 0 rfl rfl)
theorem dX2_rules_1 : decode cX2_rules 1 = .ok (.iconst 0, 1) := dk_3 (dk_at dksX2_rules_0 1 rfl rfl)
theorem dX2_rules_2 : decode cX2_rules 2 = .ok (.bipush 9, 2) := dk_16 9 (dk_at dksX2_rules_0 2 rfl rfl)
theorem dX2_rules_4 : decode cX2_rules 4 = .ok (.invokestatic 75, 3) := dk_184 0 75 (dk_at dksX2_rules_0 4 rfl rfl)
theorem dX2_rules_7 : decode cX2_rules 7 = .ok (.ifCond .eq 13, 3) := dk_153 0 13 (dk_at dksX2_rules_0 7 rfl rfl)
theorem dX2_rules_10 : decode cX2_rules 10 = .ok (.iload_n 2, 1) := dk_28 (dk_at dksX2_rules_0 10 rfl rfl)
theorem dX2_rules_11 : decode cX2_rules 11 = .ok (.iconst 1, 1) := dk_4 (dk_at dksX2_rules_0 11 rfl rfl)
theorem dX2_rules_12 : decode cX2_rules 12 = .ok (.bipush 99, 2) := dk_16 99 (dk_at dksX2_rules_0 12 rfl rfl)
theorem dX2_rules_14 : decode cX2_rules 14 = .ok (.invokestatic 75, 3) := dk_184 0 75 (dk_at dksX2_rules_0 14 rfl rfl)
theorem dX2_rules_17 : decode cX2_rules 17 = .ok (.ifCond .ne 5, 3) := dk_154 0 5 (dk_at dksX2_rules_0 17 rfl rfl)
theorem dX2_rules_20 : decode cX2_rules 20 = .ok (.iconst 0, 1) := dk_3 (dk_at dksX2_rules_0 20 rfl rfl)
theorem dX2_rules_21 : decode cX2_rules 21 = .ok (.ireturn, 1) := dk_172 (dk_at dksX2_rules_0 21 rfl rfl)
theorem dX2_rules_22 : decode cX2_rules 22 = .ok (.aload_n 0, 1) := dk_42 (dk_at dksX2_rules_0 22 rfl rfl)
theorem dX2_rules_23 : decode cX2_rules 23 = .ok (.getfield 7, 3) := dk_180 0 7 (dk_at dksX2_rules_1 0 rfl rfl)
theorem dX2_rules_26 : decode cX2_rules 26 = .ok (.bipush 7, 2) := dk_16 7 (dk_at dksX2_rules_1 3 rfl rfl)
theorem dX2_rules_28 : decode cX2_rules 28 = .ok (.iload_n 1, 1) := dk_27 (dk_at dksX2_rules_1 5 rfl rfl)
theorem dX2_rules_29 : decode cX2_rules 29 = .ok (.iastore, 1) := dk_79 (dk_at dksX2_rules_1 6 rfl rfl)
theorem dX2_rules_30 : decode cX2_rules 30 = .ok (.aload_n 0, 1) := dk_42 (dk_at dksX2_rules_1 7 rfl rfl)
theorem dX2_rules_31 : decode cX2_rules 31 = .ok (.getfield 7, 3) := dk_180 0 7 (dk_at dksX2_rules_1 8 rfl rfl)
theorem dX2_rules_34 : decode cX2_rules 34 = .ok (.bipush 8, 2) := dk_16 8 (dk_at dksX2_rules_1 11 rfl rfl)
theorem dX2_rules_36 : decode cX2_rules 36 = .ok (.iload_n 2, 1) := dk_28 (dk_at dksX2_rules_1 13 rfl rfl)
theorem dX2_rules_37 : decode cX2_rules 37 = .ok (.iastore, 1) := dk_79 (dk_at dksX2_rules_1 14 rfl rfl)
theorem dX2_rules_38 : decode cX2_rules 38 = .ok (.iconst 1, 1) := dk_4 (dk_at dksX2_rules_1 15 rfl rfl)
theorem dX2_rules_39 : decode cX2_rules 39 = .ok (.ireturn, 1) := dk_172 (dk_at dksX2_rules_1 16 rfl rfl)
def dkwX2_seen_5 : List UInt8 := [79, 42, 180, 0, 7, 16, 6, 46, 4, 100, 172]
abbrev dktX2_seen_5 : List UInt8 := dkwX2_seen_5 ++ []
def dkwX2_seen_4 : List UInt8 := [96, 29, 79, 42, 180, 0, 7, 21, 5, 6, 96, 21, 4, 79, 42, 180, 0, 7, 16, 6, 92, 46, 4, 96]
abbrev dktX2_seen_4 : List UInt8 := dkwX2_seen_4 ++ dktX2_seen_5
def dkwX2_seen_3 : List UInt8 := [180, 0, 7, 21, 5, 27, 79, 42, 180, 0, 7, 21, 5, 4, 96, 28, 79, 42, 180, 0, 7, 21, 5, 5]
abbrev dktX2_seen_3 : List UInt8 := dkwX2_seen_3 ++ dktX2_seen_4
def dkwX2_seen_2 : List UInt8 := [46, 16, 12, 160, 0, 5, 2, 172, 16, 126, 7, 42, 180, 0, 7, 16, 6, 46, 104, 96, 54, 5, 42]
abbrev dktX2_seen_2 : List UInt8 := dkwX2_seen_2 ++ dktX2_seen_3
def dkwX2_seen_1 : List UInt8 := [184, 0, 75, 153, 0, 27, 21, 4, 3, 17, 3, 231, 184, 0, 75, 153, 0, 15, 42, 180, 0, 7, 16, 6]
abbrev dktX2_seen_1 : List UInt8 := dkwX2_seen_1 ++ dktX2_seen_2
def dkwX2_seen_0 : List UInt8 := [42, 27, 182, 0, 83, 153, 0, 48, 28, 3, 16, 19, 184, 0, 75, 153, 0, 38, 29, 4, 17, 3, 231]
abbrev dktX2_seen_0 : List UInt8 := dkwX2_seen_0 ++ dktX2_seen_1
theorem dksX2_seen_0 : cX2_seen.data.toList.drop 0 = dktX2_seen_0 := by decide +kernel
theorem dksX2_seen_1 : cX2_seen.data.toList.drop 23 = dktX2_seen_1 := dk_seg dksX2_seen_0 23 rfl rfl
theorem dksX2_seen_2 : cX2_seen.data.toList.drop 47 = dktX2_seen_2 := dk_seg dksX2_seen_1 24 rfl rfl
theorem dksX2_seen_3 : cX2_seen.data.toList.drop 70 = dktX2_seen_3 := dk_seg dksX2_seen_2 23 rfl rfl
theorem dksX2_seen_4 : cX2_seen.data.toList.drop 94 = dktX2_seen_4 := dk_seg dksX2_seen_3 24 rfl rfl
theorem dksX2_seen_5 : cX2_seen.data.toList.drop 118 = dktX2_seen_5 := dk_seg dksX2_seen_4 24 rfl rfl
theorem dX2_seen_0 : decode cX2_seen 0 = .ok (.aload_n 0, 1) := dk_42 (dk_at dksX2_seen_0 0 rfl rfl)
theorem dX2_seen_1 : decode cX2_seen 1 = .ok (.iload_n 1, 1) := dk_27 (dk_at dksX2_seen_0 1 rfl rfl)
theorem dX2_seen_2 : decode cX2_seen 2 = .ok (.invokevirtual 83, 3) := dk_182 0 83 (dk_at dksX2_seen_0 2 rfl rfl)
theorem dX2_seen_5 : decode cX2_seen 5 = .ok (.ifCond .eq 48, 3) := dk_153 0 48 (dk_at dksX2_seen_0 5 rfl rfl)
theorem dX2_seen_8 : decode cX2_seen 8 = .ok (.iload_n 2, 1) := dk_28 (dk_at dksX2_seen_0 8 rfl rfl)
theorem dX2_seen_9 : decode cX2_seen 9 = .ok (.iconst 0, 1) := dk_3 (dk_at dksX2_seen_0 9 rfl rfl)
theorem dX2_seen_10 : decode cX2_seen 10 = .ok (.bipush 19, 2) := dk_16 19 (dk_at dksX2_seen_0 10 rfl rfl)
theorem dX2_seen_12 : decode cX2_seen 12 = .ok (.invokestatic 75, 3) := dk_184 0 75 (dk_at dksX2_seen_0 12 rfl rfl)
theorem dX2_seen_15 : decode cX2_seen 15 = .ok (.ifCond .eq 38, 3) := dk_153 0 38 (dk_at dksX2_seen_0 15 rfl rfl)
theorem dX2_seen_18 : decode cX2_seen 18 = .ok (.iload_n 3, 1) := dk_29 (dk_at dksX2_seen_0 18 rfl rfl)
theorem dX2_seen_19 : decode cX2_seen 19 = .ok (.iconst 1, 1) := dk_4 (dk_at dksX2_seen_0 19 rfl rfl)
theorem dX2_seen_20 : decode cX2_seen 20 = .ok (.sipush 999, 3) := dk_17 3 231 (dk_at dksX2_seen_0 20 rfl rfl)
theorem dX2_seen_23 : decode cX2_seen 23 = .ok (.invokestatic 75, 3) := dk_184 0 75 (dk_at dksX2_seen_1 0 rfl rfl)
theorem dX2_seen_26 : decode cX2_seen 26 = .ok (.ifCond .eq 27, 3) := dk_153 0 27 (dk_at dksX2_seen_1 3 rfl rfl)
theorem dX2_seen_29 : decode cX2_seen 29 = .ok (.iload 4, 2) := dk_21 4 (dk_at dksX2_seen_1 6 rfl rfl)
theorem dX2_seen_31 : decode cX2_seen 31 = .ok (.iconst 0, 1) := dk_3 (dk_at dksX2_seen_1 8 rfl rfl)
theorem dX2_seen_32 : decode cX2_seen 32 = .ok (.sipush 999, 3) := dk_17 3 231 (dk_at dksX2_seen_1 9 rfl rfl)
theorem dX2_seen_35 : decode cX2_seen 35 = .ok (.invokestatic 75, 3) := dk_184 0 75 (dk_at dksX2_seen_1 12 rfl rfl)
theorem dX2_seen_38 : decode cX2_seen 38 = .ok (.ifCond .eq 15, 3) := dk_153 0 15 (dk_at dksX2_seen_1 15 rfl rfl)
theorem dX2_seen_41 : decode cX2_seen 41 = .ok (.aload_n 0, 1) := dk_42 (dk_at dksX2_seen_1 18 rfl rfl)
theorem dX2_seen_42 : decode cX2_seen 42 = .ok (.getfield 7, 3) := dk_180 0 7 (dk_at dksX2_seen_1 19 rfl rfl)
theorem dX2_seen_45 : decode cX2_seen 45 = .ok (.bipush 6, 2) := dk_16 6 (dk_at dksX2_seen_1 22 rfl rfl)
theorem dX2_seen_47 : decode cX2_seen 47 = .ok (.iaload, 1) := dk_46 (dk_at dksX2_seen_2 0 rfl rfl)
theorem dX2_seen_48 : decode cX2_seen 48 = .ok (.bipush 12, 2) := dk_16 12 (dk_at dksX2_seen_2 1 rfl rfl)
theorem dX2_seen_50 : decode cX2_seen 50 = .ok (.if_icmp .ne 5, 3) := dk_160 0 5 (dk_at dksX2_seen_2 3 rfl rfl)
theorem dX2_seen_53 : decode cX2_seen 53 = .ok (.iconst (-1), 1) := dk_2 (dk_at dksX2_seen_2 6 rfl rfl)
theorem dX2_seen_54 : decode cX2_seen 54 = .ok (.ireturn, 1) := dk_172 (dk_at dksX2_seen_2 7 rfl rfl)
theorem dX2_seen_55 : decode cX2_seen 55 = .ok (.bipush 126, 2) := dk_16 126 (dk_at dksX2_seen_2 8 rfl rfl)
theorem dX2_seen_57 : decode cX2_seen 57 = .ok (.iconst 4, 1) := dk_7 (dk_at dksX2_seen_2 10 rfl rfl)
theorem dX2_seen_58 : decode cX2_seen 58 = .ok (.aload_n 0, 1) := dk_42 (dk_at dksX2_seen_2 11 rfl rfl)
theorem dX2_seen_59 : decode cX2_seen 59 = .ok (.getfield 7, 3) := dk_180 0 7 (dk_at dksX2_seen_2 12 rfl rfl)
theorem dX2_seen_62 : decode cX2_seen 62 = .ok (.bipush 6, 2) := dk_16 6 (dk_at dksX2_seen_2 15 rfl rfl)
theorem dX2_seen_64 : decode cX2_seen 64 = .ok (.iaload, 1) := dk_46 (dk_at dksX2_seen_2 17 rfl rfl)
theorem dX2_seen_65 : decode cX2_seen 65 = .ok (.imul, 1) := dk_104 (dk_at dksX2_seen_2 18 rfl rfl)
theorem dX2_seen_66 : decode cX2_seen 66 = .ok (.iadd, 1) := dk_96 (dk_at dksX2_seen_2 19 rfl rfl)
theorem dX2_seen_67 : decode cX2_seen 67 = .ok (.istore 5, 2) := dk_54 5 (dk_at dksX2_seen_2 20 rfl rfl)
theorem dX2_seen_69 : decode cX2_seen 69 = .ok (.aload_n 0, 1) := dk_42 (dk_at dksX2_seen_2 22 rfl rfl)
theorem dX2_seen_70 : decode cX2_seen 70 = .ok (.getfield 7, 3) := dk_180 0 7 (dk_at dksX2_seen_3 0 rfl rfl)
theorem dX2_seen_73 : decode cX2_seen 73 = .ok (.iload 5, 2) := dk_21 5 (dk_at dksX2_seen_3 3 rfl rfl)
theorem dX2_seen_75 : decode cX2_seen 75 = .ok (.iload_n 1, 1) := dk_27 (dk_at dksX2_seen_3 5 rfl rfl)
theorem dX2_seen_76 : decode cX2_seen 76 = .ok (.iastore, 1) := dk_79 (dk_at dksX2_seen_3 6 rfl rfl)
theorem dX2_seen_77 : decode cX2_seen 77 = .ok (.aload_n 0, 1) := dk_42 (dk_at dksX2_seen_3 7 rfl rfl)
theorem dX2_seen_78 : decode cX2_seen 78 = .ok (.getfield 7, 3) := dk_180 0 7 (dk_at dksX2_seen_3 8 rfl rfl)
theorem dX2_seen_81 : decode cX2_seen 81 = .ok (.iload 5, 2) := dk_21 5 (dk_at dksX2_seen_3 11 rfl rfl)
theorem dX2_seen_83 : decode cX2_seen 83 = .ok (.iconst 1, 1) := dk_4 (dk_at dksX2_seen_3 13 rfl rfl)
theorem dX2_seen_84 : decode cX2_seen 84 = .ok (.iadd, 1) := dk_96 (dk_at dksX2_seen_3 14 rfl rfl)
theorem dX2_seen_85 : decode cX2_seen 85 = .ok (.iload_n 2, 1) := dk_28 (dk_at dksX2_seen_3 15 rfl rfl)
theorem dX2_seen_86 : decode cX2_seen 86 = .ok (.iastore, 1) := dk_79 (dk_at dksX2_seen_3 16 rfl rfl)
theorem dX2_seen_87 : decode cX2_seen 87 = .ok (.aload_n 0, 1) := dk_42 (dk_at dksX2_seen_3 17 rfl rfl)
theorem dX2_seen_88 : decode cX2_seen 88 = .ok (.getfield 7, 3) := dk_180 0 7 (dk_at dksX2_seen_3 18 rfl rfl)
theorem dX2_seen_91 : decode cX2_seen 91 = .ok (.iload 5, 2) := dk_21 5 (dk_at dksX2_seen_3 21 rfl rfl)
theorem dX2_seen_93 : decode cX2_seen 93 = .ok (.iconst 2, 1) := dk_5 (dk_at dksX2_seen_3 23 rfl rfl)
theorem dX2_seen_94 : decode cX2_seen 94 = .ok (.iadd, 1) := dk_96 (dk_at dksX2_seen_4 0 rfl rfl)
theorem dX2_seen_95 : decode cX2_seen 95 = .ok (.iload_n 3, 1) := dk_29 (dk_at dksX2_seen_4 1 rfl rfl)
theorem dX2_seen_96 : decode cX2_seen 96 = .ok (.iastore, 1) := dk_79 (dk_at dksX2_seen_4 2 rfl rfl)
theorem dX2_seen_97 : decode cX2_seen 97 = .ok (.aload_n 0, 1) := dk_42 (dk_at dksX2_seen_4 3 rfl rfl)
theorem dX2_seen_98 : decode cX2_seen 98 = .ok (.getfield 7, 3) := dk_180 0 7 (dk_at dksX2_seen_4 4 rfl rfl)
theorem dX2_seen_101 : decode cX2_seen 101 = .ok (.iload 5, 2) := dk_21 5 (dk_at dksX2_seen_4 7 rfl rfl)
theorem dX2_seen_103 : decode cX2_seen 103 = .ok (.iconst 3, 1) := dk_6 (dk_at dksX2_seen_4 9 rfl rfl)
theorem dX2_seen_104 : decode cX2_seen 104 = .ok (.iadd, 1) := dk_96 (dk_at dksX2_seen_4 10 rfl rfl)
theorem dX2_seen_105 : decode cX2_seen 105 = .ok (.iload 4, 2) := dk_21 4 (dk_at dksX2_seen_4 11 rfl rfl)
theorem dX2_seen_107 : decode cX2_seen 107 = .ok (.iastore, 1) := dk_79 (dk_at dksX2_seen_4 13 rfl rfl)
theorem dX2_seen_108 : decode cX2_seen 108 = .ok (.aload_n 0, 1) := dk_42 (dk_at dksX2_seen_4 14 rfl rfl)
theorem dX2_seen_109 : decode cX2_seen 109 = .ok (.getfield 7, 3) := dk_180 0 7 (dk_at dksX2_seen_4 15 rfl rfl)
theorem dX2_seen_112 : decode cX2_seen 112 = .ok (.bipush 6, 2) := dk_16 6 (dk_at dksX2_seen_4 18 rfl rfl)
theorem dX2_seen_114 : decode cX2_seen 114 = .ok (.dup2, 1) := dk_92 (dk_at dksX2_seen_4 20 rfl rfl)
theorem dX2_seen_115 : decode cX2_seen 115 = .ok (.iaload, 1) := dk_46 (dk_at dksX2_seen_4 21 rfl rfl)
theorem dX2_seen_116 : decode cX2_seen 116 = .ok (.iconst 1, 1) := dk_4 (dk_at dksX2_seen_4 22 rfl rfl)
theorem dX2_seen_117 : decode cX2_seen 117 = .ok (.iadd, 1) := dk_96 (dk_at dksX2_seen_4 23 rfl rfl)
theorem dX2_seen_118 : decode cX2_seen 118 = .ok (.iastore, 1) := dk_79 (dk_at dksX2_seen_5 0 rfl rfl)
theorem dX2_seen_119 : decode cX2_seen 119 = .ok (.aload_n 0, 1) := dk_42 (dk_at dksX2_seen_5 1 rfl rfl)
theorem dX2_seen_120 : decode cX2_seen 120 = .ok (.getfield 7, 3) := dk_180 0 7 (dk_at dksX2_seen_5 2 rfl rfl)
theorem dX2_seen_123 : decode cX2_seen 123 = .ok (.bipush 6, 2) := dk_16 6 (dk_at dksX2_seen_5 5 rfl rfl)
theorem dX2_seen_125 : decode cX2_seen 125 = .ok (.iaload, 1) := dk_46 (dk_at dksX2_seen_5 7 rfl rfl)
theorem dX2_seen_126 : decode cX2_seen 126 = .ok (.iconst 1, 1) := dk_4 (dk_at dksX2_seen_5 8 rfl rfl)
theorem dX2_seen_127 : decode cX2_seen 127 = .ok (.isub, 1) := dk_100 (dk_at dksX2_seen_5 9 rfl rfl)
theorem dX2_seen_128 : decode cX2_seen 128 = .ok (.ireturn, 1) := dk_172 (dk_at dksX2_seen_5 10 rfl rfl)
def dkwX2_forget_0 : List UInt8 := [42, 180, 0, 7, 16, 6, 46, 60, 42, 180, 0, 7, 16, 6, 3, 79, 27, 172]
abbrev dktX2_forget_0 : List UInt8 := dkwX2_forget_0 ++ []
theorem dksX2_forget_0 : cX2_forget.data.toList.drop 0 = dktX2_forget_0 := by decide +kernel
theorem dX2_forget_0 : decode cX2_forget 0 = .ok (.aload_n 0, 1) := dk_42 (dk_at dksX2_forget_0 0 rfl rfl)
theorem dX2_forget_1 : decode cX2_forget 1 = .ok (.getfield 7, 3) := dk_180 0 7 (dk_at dksX2_forget_0 1 rfl rfl)
theorem dX2_forget_4 : decode cX2_forget 4 = .ok (.bipush 6, 2) := dk_16 6 (dk_at dksX2_forget_0 4 rfl rfl)
theorem dX2_forget_6 : decode cX2_forget 6 = .ok (.iaload, 1) := dk_46 (dk_at dksX2_forget_0 6 rfl rfl)
theorem dX2_forget_7 : decode cX2_forget 7 = .ok (.istore_n 1, 1) := dk_60 (dk_at dksX2_forget_0 7 rfl rfl)
theorem dX2_forget_8 : decode cX2_forget 8 = .ok (.aload_n 0, 1) := dk_42 (dk_at dksX2_forget_0 8 rfl rfl)
theorem dX2_forget_9 : decode cX2_forget 9 = .ok (.getfield 7, 3) := dk_180 0 7 (dk_at dksX2_forget_0 9 rfl rfl)
theorem dX2_forget_12 : decode cX2_forget 12 = .ok (.bipush 6, 2) := dk_16 6 (dk_at dksX2_forget_0 12 rfl rfl)
theorem dX2_forget_14 : decode cX2_forget 14 = .ok (.iconst 0, 1) := dk_3 (dk_at dksX2_forget_0 14 rfl rfl)
theorem dX2_forget_15 : decode cX2_forget 15 = .ok (.iastore, 1) := dk_79 (dk_at dksX2_forget_0 15 rfl rfl)
theorem dX2_forget_16 : decode cX2_forget 16 = .ok (.iload_n 1, 1) := dk_27 (dk_at dksX2_forget_0 16 rfl rfl)
theorem dX2_forget_17 : decode cX2_forget 17 = .ok (.ireturn, 1) := dk_172 (dk_at dksX2_forget_0 17 rfl rfl)
def dkwX2_same_7 : List UInt8 := [167, 0, 4, 3, 172]
abbrev dktX2_same_7 : List UInt8 := dkwX2_same_7 ++ []
def dkwX2_same_6 : List UInt8 := [42, 180, 0, 7, 21, 4, 46, 182, 1, 77, 42, 180, 0, 7, 16, 8, 46, 108, 21, 5, 163, 0, 7, 4]
abbrev dktX2_same_6 : List UInt8 := dkwX2_same_6 ++ dktX2_same_7
def dkwX2_same_5 : List UInt8 := [180, 0, 7, 16, 7, 46, 21, 5, 104, 184, 0, 75, 154, 0, 5, 3, 172, 42, 42, 180, 0, 7, 29, 46]
abbrev dktX2_same_5 : List UInt8 := dkwX2_same_5 ++ dktX2_same_6
def dkwX2_same_4 : List UInt8 := [158, 0, 38, 42, 180, 0, 7, 29, 5, 96, 46, 42, 180, 0, 7, 21, 4, 5, 96, 46, 100, 3, 42]
abbrev dktX2_same_4 : List UInt8 := dkwX2_same_4 ++ dktX2_same_5
def dkwX2_same_3 : List UInt8 := [42, 180, 0, 7, 29, 4, 96, 46, 42, 180, 0, 7, 21, 4, 4, 96, 46, 160, 0, 43, 21, 5]
abbrev dktX2_same_3 : List UInt8 := dkwX2_same_3 ++ dktX2_same_4
def dkwX2_same_2 : List UInt8 := [104, 96, 54, 4, 42, 180, 0, 7, 21, 4, 6, 96, 46, 42, 180, 0, 7, 29, 6, 96, 46, 100, 54, 5]
abbrev dktX2_same_2 : List UInt8 := dkwX2_same_2 ++ dktX2_same_3
def dkwX2_same_1 : List UInt8 := [16, 6, 46, 4, 100, 184, 0, 75, 154, 0, 5, 3, 172, 16, 126, 7, 27, 104, 96, 62, 16, 126, 7, 28]
abbrev dktX2_same_1 : List UInt8 := dkwX2_same_1 ++ dktX2_same_2
def dkwX2_same_0 : List UInt8 := [27, 3, 42, 180, 0, 7, 16, 6, 46, 4, 100, 184, 0, 75, 153, 0, 20, 28, 3, 42, 180, 0, 7]
abbrev dktX2_same_0 : List UInt8 := dkwX2_same_0 ++ dktX2_same_1
theorem dksX2_same_0 : cX2_same.data.toList.drop 0 = dktX2_same_0 := by decide +kernel
theorem dksX2_same_1 : cX2_same.data.toList.drop 23 = dktX2_same_1 := dk_seg dksX2_same_0 23 rfl rfl
theorem dksX2_same_2 : cX2_same.data.toList.drop 47 = dktX2_same_2 := dk_seg dksX2_same_1 24 rfl rfl
theorem dksX2_same_3 : cX2_same.data.toList.drop 71 = dktX2_same_3 := dk_seg dksX2_same_2 24 rfl rfl
theorem dksX2_same_4 : cX2_same.data.toList.drop 93 = dktX2_same_4 := dk_seg dksX2_same_3 22 rfl rfl
theorem dksX2_same_5 : cX2_same.data.toList.drop 116 = dktX2_same_5 := dk_seg dksX2_same_4 23 rfl rfl
theorem dksX2_same_6 : cX2_same.data.toList.drop 140 = dktX2_same_6 := dk_seg dksX2_same_5 24 rfl rfl
theorem dksX2_same_7 : cX2_same.data.toList.drop 164 = dktX2_same_7 := dk_seg dksX2_same_6 24 rfl rfl
theorem dX2_same_0 : decode cX2_same 0 = .ok (.iload_n 1, 1) := dk_27 (dk_at dksX2_same_0 0 rfl rfl)
theorem dX2_same_1 : decode cX2_same 1 = .ok (.iconst 0, 1) := dk_3 (dk_at dksX2_same_0 1 rfl rfl)
theorem dX2_same_2 : decode cX2_same 2 = .ok (.aload_n 0, 1) := dk_42 (dk_at dksX2_same_0 2 rfl rfl)
theorem dX2_same_3 : decode cX2_same 3 = .ok (.getfield 7, 3) := dk_180 0 7 (dk_at dksX2_same_0 3 rfl rfl)
theorem dX2_same_6 : decode cX2_same 6 = .ok (.bipush 6, 2) := dk_16 6 (dk_at dksX2_same_0 6 rfl rfl)
theorem dX2_same_8 : decode cX2_same 8 = .ok (.iaload, 1) := dk_46 (dk_at dksX2_same_0 8 rfl rfl)
theorem dX2_same_9 : decode cX2_same 9 = .ok (.iconst 1, 1) := dk_4 (dk_at dksX2_same_0 9 rfl rfl)
theorem dX2_same_10 : decode cX2_same 10 = .ok (.isub, 1) := dk_100 (dk_at dksX2_same_0 10 rfl rfl)
theorem dX2_same_11 : decode cX2_same 11 = .ok (.invokestatic 75, 3) := dk_184 0 75 (dk_at dksX2_same_0 11 rfl rfl)
theorem dX2_same_14 : decode cX2_same 14 = .ok (.ifCond .eq 20, 3) := dk_153 0 20 (dk_at dksX2_same_0 14 rfl rfl)
theorem dX2_same_17 : decode cX2_same 17 = .ok (.iload_n 2, 1) := dk_28 (dk_at dksX2_same_0 17 rfl rfl)
theorem dX2_same_18 : decode cX2_same 18 = .ok (.iconst 0, 1) := dk_3 (dk_at dksX2_same_0 18 rfl rfl)
theorem dX2_same_19 : decode cX2_same 19 = .ok (.aload_n 0, 1) := dk_42 (dk_at dksX2_same_0 19 rfl rfl)
theorem dX2_same_20 : decode cX2_same 20 = .ok (.getfield 7, 3) := dk_180 0 7 (dk_at dksX2_same_0 20 rfl rfl)
theorem dX2_same_23 : decode cX2_same 23 = .ok (.bipush 6, 2) := dk_16 6 (dk_at dksX2_same_1 0 rfl rfl)
theorem dX2_same_25 : decode cX2_same 25 = .ok (.iaload, 1) := dk_46 (dk_at dksX2_same_1 2 rfl rfl)
theorem dX2_same_26 : decode cX2_same 26 = .ok (.iconst 1, 1) := dk_4 (dk_at dksX2_same_1 3 rfl rfl)
theorem dX2_same_27 : decode cX2_same 27 = .ok (.isub, 1) := dk_100 (dk_at dksX2_same_1 4 rfl rfl)
theorem dX2_same_28 : decode cX2_same 28 = .ok (.invokestatic 75, 3) := dk_184 0 75 (dk_at dksX2_same_1 5 rfl rfl)
theorem dX2_same_31 : decode cX2_same 31 = .ok (.ifCond .ne 5, 3) := dk_154 0 5 (dk_at dksX2_same_1 8 rfl rfl)
theorem dX2_same_34 : decode cX2_same 34 = .ok (.iconst 0, 1) := dk_3 (dk_at dksX2_same_1 11 rfl rfl)
theorem dX2_same_35 : decode cX2_same 35 = .ok (.ireturn, 1) := dk_172 (dk_at dksX2_same_1 12 rfl rfl)
theorem dX2_same_36 : decode cX2_same 36 = .ok (.bipush 126, 2) := dk_16 126 (dk_at dksX2_same_1 13 rfl rfl)
theorem dX2_same_38 : decode cX2_same 38 = .ok (.iconst 4, 1) := dk_7 (dk_at dksX2_same_1 15 rfl rfl)
theorem dX2_same_39 : decode cX2_same 39 = .ok (.iload_n 1, 1) := dk_27 (dk_at dksX2_same_1 16 rfl rfl)
theorem dX2_same_40 : decode cX2_same 40 = .ok (.imul, 1) := dk_104 (dk_at dksX2_same_1 17 rfl rfl)
theorem dX2_same_41 : decode cX2_same 41 = .ok (.iadd, 1) := dk_96 (dk_at dksX2_same_1 18 rfl rfl)
theorem dX2_same_42 : decode cX2_same 42 = .ok (.istore_n 3, 1) := dk_62 (dk_at dksX2_same_1 19 rfl rfl)
theorem dX2_same_43 : decode cX2_same 43 = .ok (.bipush 126, 2) := dk_16 126 (dk_at dksX2_same_1 20 rfl rfl)
theorem dX2_same_45 : decode cX2_same 45 = .ok (.iconst 4, 1) := dk_7 (dk_at dksX2_same_1 22 rfl rfl)
theorem dX2_same_46 : decode cX2_same 46 = .ok (.iload_n 2, 1) := dk_28 (dk_at dksX2_same_1 23 rfl rfl)
theorem dX2_same_47 : decode cX2_same 47 = .ok (.imul, 1) := dk_104 (dk_at dksX2_same_2 0 rfl rfl)
theorem dX2_same_48 : decode cX2_same 48 = .ok (.iadd, 1) := dk_96 (dk_at dksX2_same_2 1 rfl rfl)
theorem dX2_same_49 : decode cX2_same 49 = .ok (.istore 4, 2) := dk_54 4 (dk_at dksX2_same_2 2 rfl rfl)
theorem dX2_same_51 : decode cX2_same 51 = .ok (.aload_n 0, 1) := dk_42 (dk_at dksX2_same_2 4 rfl rfl)
theorem dX2_same_52 : decode cX2_same 52 = .ok (.getfield 7, 3) := dk_180 0 7 (dk_at dksX2_same_2 5 rfl rfl)
theorem dX2_same_55 : decode cX2_same 55 = .ok (.iload 4, 2) := dk_21 4 (dk_at dksX2_same_2 8 rfl rfl)
theorem dX2_same_57 : decode cX2_same 57 = .ok (.iconst 3, 1) := dk_6 (dk_at dksX2_same_2 10 rfl rfl)
theorem dX2_same_58 : decode cX2_same 58 = .ok (.iadd, 1) := dk_96 (dk_at dksX2_same_2 11 rfl rfl)
theorem dX2_same_59 : decode cX2_same 59 = .ok (.iaload, 1) := dk_46 (dk_at dksX2_same_2 12 rfl rfl)
theorem dX2_same_60 : decode cX2_same 60 = .ok (.aload_n 0, 1) := dk_42 (dk_at dksX2_same_2 13 rfl rfl)
theorem dX2_same_61 : decode cX2_same 61 = .ok (.getfield 7, 3) := dk_180 0 7 (dk_at dksX2_same_2 14 rfl rfl)
theorem dX2_same_64 : decode cX2_same 64 = .ok (.iload_n 3, 1) := dk_29 (dk_at dksX2_same_2 17 rfl rfl)
theorem dX2_same_65 : decode cX2_same 65 = .ok (.iconst 3, 1) := dk_6 (dk_at dksX2_same_2 18 rfl rfl)
theorem dX2_same_66 : decode cX2_same 66 = .ok (.iadd, 1) := dk_96 (dk_at dksX2_same_2 19 rfl rfl)
theorem dX2_same_67 : decode cX2_same 67 = .ok (.iaload, 1) := dk_46 (dk_at dksX2_same_2 20 rfl rfl)
theorem dX2_same_68 : decode cX2_same 68 = .ok (.isub, 1) := dk_100 (dk_at dksX2_same_2 21 rfl rfl)
theorem dX2_same_69 : decode cX2_same 69 = .ok (.istore 5, 2) := dk_54 5 (dk_at dksX2_same_2 22 rfl rfl)
theorem dX2_same_71 : decode cX2_same 71 = .ok (.aload_n 0, 1) := dk_42 (dk_at dksX2_same_3 0 rfl rfl)
theorem dX2_same_72 : decode cX2_same 72 = .ok (.getfield 7, 3) := dk_180 0 7 (dk_at dksX2_same_3 1 rfl rfl)
theorem dX2_same_75 : decode cX2_same 75 = .ok (.iload_n 3, 1) := dk_29 (dk_at dksX2_same_3 4 rfl rfl)
theorem dX2_same_76 : decode cX2_same 76 = .ok (.iconst 1, 1) := dk_4 (dk_at dksX2_same_3 5 rfl rfl)
theorem dX2_same_77 : decode cX2_same 77 = .ok (.iadd, 1) := dk_96 (dk_at dksX2_same_3 6 rfl rfl)
theorem dX2_same_78 : decode cX2_same 78 = .ok (.iaload, 1) := dk_46 (dk_at dksX2_same_3 7 rfl rfl)
theorem dX2_same_79 : decode cX2_same 79 = .ok (.aload_n 0, 1) := dk_42 (dk_at dksX2_same_3 8 rfl rfl)
theorem dX2_same_80 : decode cX2_same 80 = .ok (.getfield 7, 3) := dk_180 0 7 (dk_at dksX2_same_3 9 rfl rfl)
theorem dX2_same_83 : decode cX2_same 83 = .ok (.iload 4, 2) := dk_21 4 (dk_at dksX2_same_3 12 rfl rfl)
theorem dX2_same_85 : decode cX2_same 85 = .ok (.iconst 1, 1) := dk_4 (dk_at dksX2_same_3 14 rfl rfl)
theorem dX2_same_86 : decode cX2_same 86 = .ok (.iadd, 1) := dk_96 (dk_at dksX2_same_3 15 rfl rfl)
theorem dX2_same_87 : decode cX2_same 87 = .ok (.iaload, 1) := dk_46 (dk_at dksX2_same_3 16 rfl rfl)
theorem dX2_same_88 : decode cX2_same 88 = .ok (.if_icmp .ne 43, 3) := dk_160 0 43 (dk_at dksX2_same_3 17 rfl rfl)
theorem dX2_same_91 : decode cX2_same 91 = .ok (.iload 5, 2) := dk_21 5 (dk_at dksX2_same_3 20 rfl rfl)
theorem dX2_same_93 : decode cX2_same 93 = .ok (.ifCond .le 38, 3) := dk_158 0 38 (dk_at dksX2_same_4 0 rfl rfl)
theorem dX2_same_96 : decode cX2_same 96 = .ok (.aload_n 0, 1) := dk_42 (dk_at dksX2_same_4 3 rfl rfl)
theorem dX2_same_97 : decode cX2_same 97 = .ok (.getfield 7, 3) := dk_180 0 7 (dk_at dksX2_same_4 4 rfl rfl)
theorem dX2_same_100 : decode cX2_same 100 = .ok (.iload_n 3, 1) := dk_29 (dk_at dksX2_same_4 7 rfl rfl)
theorem dX2_same_101 : decode cX2_same 101 = .ok (.iconst 2, 1) := dk_5 (dk_at dksX2_same_4 8 rfl rfl)
theorem dX2_same_102 : decode cX2_same 102 = .ok (.iadd, 1) := dk_96 (dk_at dksX2_same_4 9 rfl rfl)
theorem dX2_same_103 : decode cX2_same 103 = .ok (.iaload, 1) := dk_46 (dk_at dksX2_same_4 10 rfl rfl)
theorem dX2_same_104 : decode cX2_same 104 = .ok (.aload_n 0, 1) := dk_42 (dk_at dksX2_same_4 11 rfl rfl)
theorem dX2_same_105 : decode cX2_same 105 = .ok (.getfield 7, 3) := dk_180 0 7 (dk_at dksX2_same_4 12 rfl rfl)
theorem dX2_same_108 : decode cX2_same 108 = .ok (.iload 4, 2) := dk_21 4 (dk_at dksX2_same_4 15 rfl rfl)
theorem dX2_same_110 : decode cX2_same 110 = .ok (.iconst 2, 1) := dk_5 (dk_at dksX2_same_4 17 rfl rfl)
theorem dX2_same_111 : decode cX2_same 111 = .ok (.iadd, 1) := dk_96 (dk_at dksX2_same_4 18 rfl rfl)
theorem dX2_same_112 : decode cX2_same 112 = .ok (.iaload, 1) := dk_46 (dk_at dksX2_same_4 19 rfl rfl)
theorem dX2_same_113 : decode cX2_same 113 = .ok (.isub, 1) := dk_100 (dk_at dksX2_same_4 20 rfl rfl)
theorem dX2_same_114 : decode cX2_same 114 = .ok (.iconst 0, 1) := dk_3 (dk_at dksX2_same_4 21 rfl rfl)
theorem dX2_same_115 : decode cX2_same 115 = .ok (.aload_n 0, 1) := dk_42 (dk_at dksX2_same_4 22 rfl rfl)
theorem dX2_same_116 : decode cX2_same 116 = .ok (.getfield 7, 3) := dk_180 0 7 (dk_at dksX2_same_5 0 rfl rfl)
theorem dX2_same_119 : decode cX2_same 119 = .ok (.bipush 7, 2) := dk_16 7 (dk_at dksX2_same_5 3 rfl rfl)
theorem dX2_same_121 : decode cX2_same 121 = .ok (.iaload, 1) := dk_46 (dk_at dksX2_same_5 5 rfl rfl)
theorem dX2_same_122 : decode cX2_same 122 = .ok (.iload 5, 2) := dk_21 5 (dk_at dksX2_same_5 6 rfl rfl)
theorem dX2_same_124 : decode cX2_same 124 = .ok (.imul, 1) := dk_104 (dk_at dksX2_same_5 8 rfl rfl)
theorem dX2_same_125 : decode cX2_same 125 = .ok (.invokestatic 75, 3) := dk_184 0 75 (dk_at dksX2_same_5 9 rfl rfl)
theorem dX2_same_128 : decode cX2_same 128 = .ok (.ifCond .ne 5, 3) := dk_154 0 5 (dk_at dksX2_same_5 12 rfl rfl)
theorem dX2_same_131 : decode cX2_same 131 = .ok (.iconst 0, 1) := dk_3 (dk_at dksX2_same_5 15 rfl rfl)
theorem dX2_same_132 : decode cX2_same 132 = .ok (.ireturn, 1) := dk_172 (dk_at dksX2_same_5 16 rfl rfl)
theorem dX2_same_133 : decode cX2_same 133 = .ok (.aload_n 0, 1) := dk_42 (dk_at dksX2_same_5 17 rfl rfl)
theorem dX2_same_134 : decode cX2_same 134 = .ok (.aload_n 0, 1) := dk_42 (dk_at dksX2_same_5 18 rfl rfl)
theorem dX2_same_135 : decode cX2_same 135 = .ok (.getfield 7, 3) := dk_180 0 7 (dk_at dksX2_same_5 19 rfl rfl)
theorem dX2_same_138 : decode cX2_same 138 = .ok (.iload_n 3, 1) := dk_29 (dk_at dksX2_same_5 22 rfl rfl)
theorem dX2_same_139 : decode cX2_same 139 = .ok (.iaload, 1) := dk_46 (dk_at dksX2_same_5 23 rfl rfl)
theorem dX2_same_140 : decode cX2_same 140 = .ok (.aload_n 0, 1) := dk_42 (dk_at dksX2_same_6 0 rfl rfl)
theorem dX2_same_141 : decode cX2_same 141 = .ok (.getfield 7, 3) := dk_180 0 7 (dk_at dksX2_same_6 1 rfl rfl)
theorem dX2_same_144 : decode cX2_same 144 = .ok (.iload 4, 2) := dk_21 4 (dk_at dksX2_same_6 4 rfl rfl)
theorem dX2_same_146 : decode cX2_same 146 = .ok (.iaload, 1) := dk_46 (dk_at dksX2_same_6 6 rfl rfl)
theorem dX2_same_147 : decode cX2_same 147 = .ok (.invokevirtual 333, 3) := dk_182 1 77 (dk_at dksX2_same_6 7 rfl rfl)
theorem dX2_same_150 : decode cX2_same 150 = .ok (.aload_n 0, 1) := dk_42 (dk_at dksX2_same_6 10 rfl rfl)
theorem dX2_same_151 : decode cX2_same 151 = .ok (.getfield 7, 3) := dk_180 0 7 (dk_at dksX2_same_6 11 rfl rfl)
theorem dX2_same_154 : decode cX2_same 154 = .ok (.bipush 8, 2) := dk_16 8 (dk_at dksX2_same_6 14 rfl rfl)
theorem dX2_same_156 : decode cX2_same 156 = .ok (.iaload, 1) := dk_46 (dk_at dksX2_same_6 16 rfl rfl)
theorem dX2_same_157 : decode cX2_same 157 = .ok (.idiv, 1) := dk_108 (dk_at dksX2_same_6 17 rfl rfl)
theorem dX2_same_158 : decode cX2_same 158 = .ok (.iload 5, 2) := dk_21 5 (dk_at dksX2_same_6 18 rfl rfl)
theorem dX2_same_160 : decode cX2_same 160 = .ok (.if_icmp .gt 7, 3) := dk_163 0 7 (dk_at dksX2_same_6 20 rfl rfl)
theorem dX2_same_163 : decode cX2_same 163 = .ok (.iconst 1, 1) := dk_4 (dk_at dksX2_same_6 23 rfl rfl)
theorem dX2_same_164 : decode cX2_same 164 = .ok (.goto 4, 3) := dk_167 0 4 (dk_at dksX2_same_7 0 rfl rfl)
theorem dX2_same_167 : decode cX2_same 167 = .ok (.iconst 0, 1) := dk_3 (dk_at dksX2_same_7 3 rfl rfl)
theorem dX2_same_168 : decode cX2_same 168 = .ok (.ireturn, 1) := dk_172 (dk_at dksX2_same_7 4 rfl rfl)
def dkwX2_miles_2 : List UInt8 := [104, 96, 4, 96, 46, 184, 0, 79, 96, 172]
abbrev dktX2_miles_2 : List UInt8 := dkwX2_miles_2 ++ []
def dkwX2_miles_1 : List UInt8 := [184, 0, 79, 42, 180, 0, 7, 16, 10, 5, 27, 104, 96, 4, 96, 46, 42, 180, 0, 7, 16, 10, 5, 28]
abbrev dktX2_miles_1 : List UInt8 := dkwX2_miles_1 ++ dktX2_miles_2
def dkwX2_miles_0 : List UInt8 := [42, 180, 0, 7, 16, 10, 5, 27, 104, 96, 46, 42, 180, 0, 7, 16, 10, 5, 28, 104, 96, 46]
abbrev dktX2_miles_0 : List UInt8 := dkwX2_miles_0 ++ dktX2_miles_1
theorem dksX2_miles_0 : cX2_miles.data.toList.drop 0 = dktX2_miles_0 := by decide +kernel
theorem dksX2_miles_1 : cX2_miles.data.toList.drop 22 = dktX2_miles_1 := dk_seg dksX2_miles_0 22 rfl rfl
theorem dksX2_miles_2 : cX2_miles.data.toList.drop 46 = dktX2_miles_2 := dk_seg dksX2_miles_1 24 rfl rfl
theorem dX2_miles_0 : decode cX2_miles 0 = .ok (.aload_n 0, 1) := dk_42 (dk_at dksX2_miles_0 0 rfl rfl)
theorem dX2_miles_1 : decode cX2_miles 1 = .ok (.getfield 7, 3) := dk_180 0 7 (dk_at dksX2_miles_0 1 rfl rfl)
theorem dX2_miles_4 : decode cX2_miles 4 = .ok (.bipush 10, 2) := dk_16 10 (dk_at dksX2_miles_0 4 rfl rfl)
theorem dX2_miles_6 : decode cX2_miles 6 = .ok (.iconst 2, 1) := dk_5 (dk_at dksX2_miles_0 6 rfl rfl)
theorem dX2_miles_7 : decode cX2_miles 7 = .ok (.iload_n 1, 1) := dk_27 (dk_at dksX2_miles_0 7 rfl rfl)
theorem dX2_miles_8 : decode cX2_miles 8 = .ok (.imul, 1) := dk_104 (dk_at dksX2_miles_0 8 rfl rfl)
theorem dX2_miles_9 : decode cX2_miles 9 = .ok (.iadd, 1) := dk_96 (dk_at dksX2_miles_0 9 rfl rfl)
theorem dX2_miles_10 : decode cX2_miles 10 = .ok (.iaload, 1) := dk_46 (dk_at dksX2_miles_0 10 rfl rfl)
theorem dX2_miles_11 : decode cX2_miles 11 = .ok (.aload_n 0, 1) := dk_42 (dk_at dksX2_miles_0 11 rfl rfl)
theorem dX2_miles_12 : decode cX2_miles 12 = .ok (.getfield 7, 3) := dk_180 0 7 (dk_at dksX2_miles_0 12 rfl rfl)
theorem dX2_miles_15 : decode cX2_miles 15 = .ok (.bipush 10, 2) := dk_16 10 (dk_at dksX2_miles_0 15 rfl rfl)
theorem dX2_miles_17 : decode cX2_miles 17 = .ok (.iconst 2, 1) := dk_5 (dk_at dksX2_miles_0 17 rfl rfl)
theorem dX2_miles_18 : decode cX2_miles 18 = .ok (.iload_n 2, 1) := dk_28 (dk_at dksX2_miles_0 18 rfl rfl)
theorem dX2_miles_19 : decode cX2_miles 19 = .ok (.imul, 1) := dk_104 (dk_at dksX2_miles_0 19 rfl rfl)
theorem dX2_miles_20 : decode cX2_miles 20 = .ok (.iadd, 1) := dk_96 (dk_at dksX2_miles_0 20 rfl rfl)
theorem dX2_miles_21 : decode cX2_miles 21 = .ok (.iaload, 1) := dk_46 (dk_at dksX2_miles_0 21 rfl rfl)
theorem dX2_miles_22 : decode cX2_miles 22 = .ok (.invokestatic 79, 3) := dk_184 0 79 (dk_at dksX2_miles_1 0 rfl rfl)
theorem dX2_miles_25 : decode cX2_miles 25 = .ok (.aload_n 0, 1) := dk_42 (dk_at dksX2_miles_1 3 rfl rfl)
theorem dX2_miles_26 : decode cX2_miles 26 = .ok (.getfield 7, 3) := dk_180 0 7 (dk_at dksX2_miles_1 4 rfl rfl)
theorem dX2_miles_29 : decode cX2_miles 29 = .ok (.bipush 10, 2) := dk_16 10 (dk_at dksX2_miles_1 7 rfl rfl)
theorem dX2_miles_31 : decode cX2_miles 31 = .ok (.iconst 2, 1) := dk_5 (dk_at dksX2_miles_1 9 rfl rfl)
theorem dX2_miles_32 : decode cX2_miles 32 = .ok (.iload_n 1, 1) := dk_27 (dk_at dksX2_miles_1 10 rfl rfl)
theorem dX2_miles_33 : decode cX2_miles 33 = .ok (.imul, 1) := dk_104 (dk_at dksX2_miles_1 11 rfl rfl)
theorem dX2_miles_34 : decode cX2_miles 34 = .ok (.iadd, 1) := dk_96 (dk_at dksX2_miles_1 12 rfl rfl)
theorem dX2_miles_35 : decode cX2_miles 35 = .ok (.iconst 1, 1) := dk_4 (dk_at dksX2_miles_1 13 rfl rfl)
theorem dX2_miles_36 : decode cX2_miles 36 = .ok (.iadd, 1) := dk_96 (dk_at dksX2_miles_1 14 rfl rfl)
theorem dX2_miles_37 : decode cX2_miles 37 = .ok (.iaload, 1) := dk_46 (dk_at dksX2_miles_1 15 rfl rfl)
theorem dX2_miles_38 : decode cX2_miles 38 = .ok (.aload_n 0, 1) := dk_42 (dk_at dksX2_miles_1 16 rfl rfl)
theorem dX2_miles_39 : decode cX2_miles 39 = .ok (.getfield 7, 3) := dk_180 0 7 (dk_at dksX2_miles_1 17 rfl rfl)
theorem dX2_miles_42 : decode cX2_miles 42 = .ok (.bipush 10, 2) := dk_16 10 (dk_at dksX2_miles_1 20 rfl rfl)
theorem dX2_miles_44 : decode cX2_miles 44 = .ok (.iconst 2, 1) := dk_5 (dk_at dksX2_miles_1 22 rfl rfl)
theorem dX2_miles_45 : decode cX2_miles 45 = .ok (.iload_n 2, 1) := dk_28 (dk_at dksX2_miles_1 23 rfl rfl)
theorem dX2_miles_46 : decode cX2_miles 46 = .ok (.imul, 1) := dk_104 (dk_at dksX2_miles_2 0 rfl rfl)
theorem dX2_miles_47 : decode cX2_miles 47 = .ok (.iadd, 1) := dk_96 (dk_at dksX2_miles_2 1 rfl rfl)
theorem dX2_miles_48 : decode cX2_miles 48 = .ok (.iconst 1, 1) := dk_4 (dk_at dksX2_miles_2 2 rfl rfl)
theorem dX2_miles_49 : decode cX2_miles 49 = .ok (.iadd, 1) := dk_96 (dk_at dksX2_miles_2 3 rfl rfl)
theorem dX2_miles_50 : decode cX2_miles 50 = .ok (.iaload, 1) := dk_46 (dk_at dksX2_miles_2 4 rfl rfl)
theorem dX2_miles_51 : decode cX2_miles 51 = .ok (.invokestatic 79, 3) := dk_184 0 79 (dk_at dksX2_miles_2 5 rfl rfl)
theorem dX2_miles_54 : decode cX2_miles 54 = .ok (.iadd, 1) := dk_96 (dk_at dksX2_miles_2 8 rfl rfl)
theorem dX2_miles_55 : decode cX2_miles 55 = .ok (.ireturn, 1) := dk_172 (dk_at dksX2_miles_2 9 rfl rfl)
def dkwX2_apart_0 : List UInt8 := [26, 27, 162, 0, 9, 27, 26, 100, 167, 0, 6, 26, 27, 100, 172]
abbrev dktX2_apart_0 : List UInt8 := dkwX2_apart_0 ++ []
theorem dksX2_apart_0 : cX2_apart.data.toList.drop 0 = dktX2_apart_0 := by decide +kernel
theorem dX2_apart_0 : decode cX2_apart 0 = .ok (.iload_n 0, 1) := dk_26 (dk_at dksX2_apart_0 0 rfl rfl)
theorem dX2_apart_1 : decode cX2_apart 1 = .ok (.iload_n 1, 1) := dk_27 (dk_at dksX2_apart_0 1 rfl rfl)
theorem dX2_apart_2 : decode cX2_apart 2 = .ok (.if_icmp .ge 9, 3) := dk_162 0 9 (dk_at dksX2_apart_0 2 rfl rfl)
theorem dX2_apart_5 : decode cX2_apart 5 = .ok (.iload_n 1, 1) := dk_27 (dk_at dksX2_apart_0 5 rfl rfl)
theorem dX2_apart_6 : decode cX2_apart 6 = .ok (.iload_n 0, 1) := dk_26 (dk_at dksX2_apart_0 6 rfl rfl)
theorem dX2_apart_7 : decode cX2_apart 7 = .ok (.isub, 1) := dk_100 (dk_at dksX2_apart_0 7 rfl rfl)
theorem dX2_apart_8 : decode cX2_apart 8 = .ok (.goto 6, 3) := dk_167 0 6 (dk_at dksX2_apart_0 8 rfl rfl)
theorem dX2_apart_11 : decode cX2_apart 11 = .ok (.iload_n 0, 1) := dk_26 (dk_at dksX2_apart_0 11 rfl rfl)
theorem dX2_apart_12 : decode cX2_apart 12 = .ok (.iload_n 1, 1) := dk_27 (dk_at dksX2_apart_0 12 rfl rfl)
theorem dX2_apart_13 : decode cX2_apart 13 = .ok (.isub, 1) := dk_100 (dk_at dksX2_apart_0 13 rfl rfl)
theorem dX2_apart_14 : decode cX2_apart 14 = .ok (.ireturn, 1) := dk_172 (dk_at dksX2_apart_0 14 rfl rfl)
def dkwX2_best_1 : List UInt8 := [46, 16, 100, 108, 167, 0, 12, 42, 180, 0, 56, 3, 46, 16, 100, 112, 172]
abbrev dktX2_best_1 : List UInt8 := dkwX2_best_1 ++ []
def dkwX2_best_0 : List UInt8 := [27, 3, 4, 184, 0, 75, 154, 0, 5, 2, 172, 42, 182, 1, 96, 27, 154, 0, 15, 42, 180, 0, 56, 3]
abbrev dktX2_best_0 : List UInt8 := dkwX2_best_0 ++ dktX2_best_1
theorem dksX2_best_0 : cX2_best.data.toList.drop 0 = dktX2_best_0 := by decide +kernel
theorem dksX2_best_1 : cX2_best.data.toList.drop 24 = dktX2_best_1 := dk_seg dksX2_best_0 24 rfl rfl
theorem dX2_best_0 : decode cX2_best 0 = .ok (.iload_n 1, 1) := dk_27 (dk_at dksX2_best_0 0 rfl rfl)
theorem dX2_best_1 : decode cX2_best 1 = .ok (.iconst 0, 1) := dk_3 (dk_at dksX2_best_0 1 rfl rfl)
theorem dX2_best_2 : decode cX2_best 2 = .ok (.iconst 1, 1) := dk_4 (dk_at dksX2_best_0 2 rfl rfl)
theorem dX2_best_3 : decode cX2_best 3 = .ok (.invokestatic 75, 3) := dk_184 0 75 (dk_at dksX2_best_0 3 rfl rfl)
theorem dX2_best_6 : decode cX2_best 6 = .ok (.ifCond .ne 5, 3) := dk_154 0 5 (dk_at dksX2_best_0 6 rfl rfl)
theorem dX2_best_9 : decode cX2_best 9 = .ok (.iconst (-1), 1) := dk_2 (dk_at dksX2_best_0 9 rfl rfl)
theorem dX2_best_10 : decode cX2_best 10 = .ok (.ireturn, 1) := dk_172 (dk_at dksX2_best_0 10 rfl rfl)
theorem dX2_best_11 : decode cX2_best 11 = .ok (.aload_n 0, 1) := dk_42 (dk_at dksX2_best_0 11 rfl rfl)
theorem dX2_best_12 : decode cX2_best 12 = .ok (.invokevirtual 352, 3) := dk_182 1 96 (dk_at dksX2_best_0 12 rfl rfl)
theorem dX2_best_15 : decode cX2_best 15 = .ok (.iload_n 1, 1) := dk_27 (dk_at dksX2_best_0 15 rfl rfl)
theorem dX2_best_16 : decode cX2_best 16 = .ok (.ifCond .ne 15, 3) := dk_154 0 15 (dk_at dksX2_best_0 16 rfl rfl)
theorem dX2_best_19 : decode cX2_best 19 = .ok (.aload_n 0, 1) := dk_42 (dk_at dksX2_best_0 19 rfl rfl)
theorem dX2_best_20 : decode cX2_best 20 = .ok (.getfield 56, 3) := dk_180 0 56 (dk_at dksX2_best_0 20 rfl rfl)
theorem dX2_best_23 : decode cX2_best 23 = .ok (.iconst 0, 1) := dk_3 (dk_at dksX2_best_0 23 rfl rfl)
theorem dX2_best_24 : decode cX2_best 24 = .ok (.iaload, 1) := dk_46 (dk_at dksX2_best_1 0 rfl rfl)
theorem dX2_best_25 : decode cX2_best 25 = .ok (.bipush 100, 2) := dk_16 100 (dk_at dksX2_best_1 1 rfl rfl)
theorem dX2_best_27 : decode cX2_best 27 = .ok (.idiv, 1) := dk_108 (dk_at dksX2_best_1 3 rfl rfl)
theorem dX2_best_28 : decode cX2_best 28 = .ok (.goto 12, 3) := dk_167 0 12 (dk_at dksX2_best_1 4 rfl rfl)
theorem dX2_best_31 : decode cX2_best 31 = .ok (.aload_n 0, 1) := dk_42 (dk_at dksX2_best_1 7 rfl rfl)
theorem dX2_best_32 : decode cX2_best 32 = .ok (.getfield 56, 3) := dk_180 0 56 (dk_at dksX2_best_1 8 rfl rfl)
theorem dX2_best_35 : decode cX2_best 35 = .ok (.iconst 0, 1) := dk_3 (dk_at dksX2_best_1 11 rfl rfl)
theorem dX2_best_36 : decode cX2_best 36 = .ok (.iaload, 1) := dk_46 (dk_at dksX2_best_1 12 rfl rfl)
theorem dX2_best_37 : decode cX2_best 37 = .ok (.bipush 100, 2) := dk_16 100 (dk_at dksX2_best_1 13 rfl rfl)
theorem dX2_best_39 : decode cX2_best 39 = .ok (.irem, 1) := dk_112 (dk_at dksX2_best_1 15 rfl rfl)
theorem dX2_best_40 : decode cX2_best 40 = .ok (.ireturn, 1) := dk_172 (dk_at dksX2_best_1 16 rfl rfl)
def dkwX2_reckon_5 : List UInt8 := [132, 3, 1, 167, 255, 240, 132, 2, 255, 167, 255, 228, 177]
abbrev dktX2_reckon_5 : List UInt8 := dkwX2_reckon_5 ++ []
def dkwX2_reckon_4 : List UInt8 := [4, 100, 61, 28, 155, 0, 30, 3, 62, 29, 4, 27, 120, 162, 0, 15, 42, 28, 29, 182, 1, 83]
abbrev dktX2_reckon_4 : List UInt8 := dkwX2_reckon_4 ++ dktX2_reckon_5
def dkwX2_reckon_3 : List UInt8 := [28, 96, 3, 79, 42, 180, 0, 59, 17, 16, 0, 27, 104, 28, 96, 10, 80, 132, 2, 1, 167, 255, 220, 27]
abbrev dktX2_reckon_3 : List UInt8 := dkwX2_reckon_3 ++ dktX2_reckon_4
def dkwX2_reckon_2 : List UInt8 := [132, 2, 1, 167, 255, 218, 3, 61, 28, 4, 27, 120, 162, 0, 35, 42, 180, 0, 56, 17, 16, 0, 27, 104]
abbrev dktX2_reckon_2 : List UInt8 := dkwX2_reckon_2 ++ dktX2_reckon_3
def dkwX2_reckon_1 : List UInt8 := [180, 0, 62, 16, 12, 28, 104, 29, 96, 42, 28, 29, 182, 1, 80, 84, 132, 3, 1, 167, 255, 231]
abbrev dktX2_reckon_1 : List UInt8 := dkwX2_reckon_1 ++ dktX2_reckon_2
def dkwX2_reckon_0 : List UInt8 := [42, 180, 0, 7, 16, 6, 46, 60, 3, 61, 28, 27, 162, 0, 39, 3, 62, 29, 27, 162, 0, 26, 42]
abbrev dktX2_reckon_0 : List UInt8 := dkwX2_reckon_0 ++ dktX2_reckon_1
theorem dksX2_reckon_0 : cX2_reckon.data.toList.drop 0 = dktX2_reckon_0 := by decide +kernel
theorem dksX2_reckon_1 : cX2_reckon.data.toList.drop 23 = dktX2_reckon_1 := dk_seg dksX2_reckon_0 23 rfl rfl
theorem dksX2_reckon_2 : cX2_reckon.data.toList.drop 45 = dktX2_reckon_2 := dk_seg dksX2_reckon_1 22 rfl rfl
theorem dksX2_reckon_3 : cX2_reckon.data.toList.drop 69 = dktX2_reckon_3 := dk_seg dksX2_reckon_2 24 rfl rfl
theorem dksX2_reckon_4 : cX2_reckon.data.toList.drop 93 = dktX2_reckon_4 := dk_seg dksX2_reckon_3 24 rfl rfl
theorem dksX2_reckon_5 : cX2_reckon.data.toList.drop 115 = dktX2_reckon_5 := dk_seg dksX2_reckon_4 22 rfl rfl
theorem dX2_reckon_0 : decode cX2_reckon 0 = .ok (.aload_n 0, 1) := dk_42 (dk_at dksX2_reckon_0 0 rfl rfl)
theorem dX2_reckon_1 : decode cX2_reckon 1 = .ok (.getfield 7, 3) := dk_180 0 7 (dk_at dksX2_reckon_0 1 rfl rfl)
theorem dX2_reckon_4 : decode cX2_reckon 4 = .ok (.bipush 6, 2) := dk_16 6 (dk_at dksX2_reckon_0 4 rfl rfl)
theorem dX2_reckon_6 : decode cX2_reckon 6 = .ok (.iaload, 1) := dk_46 (dk_at dksX2_reckon_0 6 rfl rfl)
theorem dX2_reckon_7 : decode cX2_reckon 7 = .ok (.istore_n 1, 1) := dk_60 (dk_at dksX2_reckon_0 7 rfl rfl)
theorem dX2_reckon_8 : decode cX2_reckon 8 = .ok (.iconst 0, 1) := dk_3 (dk_at dksX2_reckon_0 8 rfl rfl)
theorem dX2_reckon_9 : decode cX2_reckon 9 = .ok (.istore_n 2, 1) := dk_61 (dk_at dksX2_reckon_0 9 rfl rfl)
theorem dX2_reckon_10 : decode cX2_reckon 10 = .ok (.iload_n 2, 1) := dk_28 (dk_at dksX2_reckon_0 10 rfl rfl)
theorem dX2_reckon_11 : decode cX2_reckon 11 = .ok (.iload_n 1, 1) := dk_27 (dk_at dksX2_reckon_0 11 rfl rfl)
theorem dX2_reckon_12 : decode cX2_reckon 12 = .ok (.if_icmp .ge 39, 3) := dk_162 0 39 (dk_at dksX2_reckon_0 12 rfl rfl)
theorem dX2_reckon_15 : decode cX2_reckon 15 = .ok (.iconst 0, 1) := dk_3 (dk_at dksX2_reckon_0 15 rfl rfl)
theorem dX2_reckon_16 : decode cX2_reckon 16 = .ok (.istore_n 3, 1) := dk_62 (dk_at dksX2_reckon_0 16 rfl rfl)
theorem dX2_reckon_17 : decode cX2_reckon 17 = .ok (.iload_n 3, 1) := dk_29 (dk_at dksX2_reckon_0 17 rfl rfl)
theorem dX2_reckon_18 : decode cX2_reckon 18 = .ok (.iload_n 1, 1) := dk_27 (dk_at dksX2_reckon_0 18 rfl rfl)
theorem dX2_reckon_19 : decode cX2_reckon 19 = .ok (.if_icmp .ge 26, 3) := dk_162 0 26 (dk_at dksX2_reckon_0 19 rfl rfl)
theorem dX2_reckon_22 : decode cX2_reckon 22 = .ok (.aload_n 0, 1) := dk_42 (dk_at dksX2_reckon_0 22 rfl rfl)
theorem dX2_reckon_23 : decode cX2_reckon 23 = .ok (.getfield 62, 3) := dk_180 0 62 (dk_at dksX2_reckon_1 0 rfl rfl)
theorem dX2_reckon_26 : decode cX2_reckon 26 = .ok (.bipush 12, 2) := dk_16 12 (dk_at dksX2_reckon_1 3 rfl rfl)
theorem dX2_reckon_28 : decode cX2_reckon 28 = .ok (.iload_n 2, 1) := dk_28 (dk_at dksX2_reckon_1 5 rfl rfl)
theorem dX2_reckon_29 : decode cX2_reckon 29 = .ok (.imul, 1) := dk_104 (dk_at dksX2_reckon_1 6 rfl rfl)
theorem dX2_reckon_30 : decode cX2_reckon 30 = .ok (.iload_n 3, 1) := dk_29 (dk_at dksX2_reckon_1 7 rfl rfl)
theorem dX2_reckon_31 : decode cX2_reckon 31 = .ok (.iadd, 1) := dk_96 (dk_at dksX2_reckon_1 8 rfl rfl)
theorem dX2_reckon_32 : decode cX2_reckon 32 = .ok (.aload_n 0, 1) := dk_42 (dk_at dksX2_reckon_1 9 rfl rfl)
theorem dX2_reckon_33 : decode cX2_reckon 33 = .ok (.iload_n 2, 1) := dk_28 (dk_at dksX2_reckon_1 10 rfl rfl)
theorem dX2_reckon_34 : decode cX2_reckon 34 = .ok (.iload_n 3, 1) := dk_29 (dk_at dksX2_reckon_1 11 rfl rfl)
theorem dX2_reckon_35 : decode cX2_reckon 35 = .ok (.invokevirtual 336, 3) := dk_182 1 80 (dk_at dksX2_reckon_1 12 rfl rfl)
theorem dX2_reckon_38 : decode cX2_reckon 38 = .ok (.bastore, 1) := dk_84 (dk_at dksX2_reckon_1 15 rfl rfl)
theorem dX2_reckon_39 : decode cX2_reckon 39 = .ok (.iinc 3 1, 3) := dk_132 3 1 (dk_at dksX2_reckon_1 16 rfl rfl)
theorem dX2_reckon_42 : decode cX2_reckon 42 = .ok (.goto (-25), 3) := dk_167 255 231 (dk_at dksX2_reckon_1 19 rfl rfl)
theorem dX2_reckon_45 : decode cX2_reckon 45 = .ok (.iinc 2 1, 3) := dk_132 2 1 (dk_at dksX2_reckon_2 0 rfl rfl)
theorem dX2_reckon_48 : decode cX2_reckon 48 = .ok (.goto (-38), 3) := dk_167 255 218 (dk_at dksX2_reckon_2 3 rfl rfl)
theorem dX2_reckon_51 : decode cX2_reckon 51 = .ok (.iconst 0, 1) := dk_3 (dk_at dksX2_reckon_2 6 rfl rfl)
theorem dX2_reckon_52 : decode cX2_reckon 52 = .ok (.istore_n 2, 1) := dk_61 (dk_at dksX2_reckon_2 7 rfl rfl)
theorem dX2_reckon_53 : decode cX2_reckon 53 = .ok (.iload_n 2, 1) := dk_28 (dk_at dksX2_reckon_2 8 rfl rfl)
theorem dX2_reckon_54 : decode cX2_reckon 54 = .ok (.iconst 1, 1) := dk_4 (dk_at dksX2_reckon_2 9 rfl rfl)
theorem dX2_reckon_55 : decode cX2_reckon 55 = .ok (.iload_n 1, 1) := dk_27 (dk_at dksX2_reckon_2 10 rfl rfl)
theorem dX2_reckon_56 : decode cX2_reckon 56 = .ok (.ishl, 1) := dk_120 (dk_at dksX2_reckon_2 11 rfl rfl)
theorem dX2_reckon_57 : decode cX2_reckon 57 = .ok (.if_icmp .ge 35, 3) := dk_162 0 35 (dk_at dksX2_reckon_2 12 rfl rfl)
theorem dX2_reckon_60 : decode cX2_reckon 60 = .ok (.aload_n 0, 1) := dk_42 (dk_at dksX2_reckon_2 15 rfl rfl)
theorem dX2_reckon_61 : decode cX2_reckon 61 = .ok (.getfield 56, 3) := dk_180 0 56 (dk_at dksX2_reckon_2 16 rfl rfl)
theorem dX2_reckon_64 : decode cX2_reckon 64 = .ok (.sipush 4096, 3) := dk_17 16 0 (dk_at dksX2_reckon_2 19 rfl rfl)
theorem dX2_reckon_67 : decode cX2_reckon 67 = .ok (.iload_n 1, 1) := dk_27 (dk_at dksX2_reckon_2 22 rfl rfl)
theorem dX2_reckon_68 : decode cX2_reckon 68 = .ok (.imul, 1) := dk_104 (dk_at dksX2_reckon_2 23 rfl rfl)
theorem dX2_reckon_69 : decode cX2_reckon 69 = .ok (.iload_n 2, 1) := dk_28 (dk_at dksX2_reckon_3 0 rfl rfl)
theorem dX2_reckon_70 : decode cX2_reckon 70 = .ok (.iadd, 1) := dk_96 (dk_at dksX2_reckon_3 1 rfl rfl)
theorem dX2_reckon_71 : decode cX2_reckon 71 = .ok (.iconst 0, 1) := dk_3 (dk_at dksX2_reckon_3 2 rfl rfl)
theorem dX2_reckon_72 : decode cX2_reckon 72 = .ok (.iastore, 1) := dk_79 (dk_at dksX2_reckon_3 3 rfl rfl)
theorem dX2_reckon_73 : decode cX2_reckon 73 = .ok (.aload_n 0, 1) := dk_42 (dk_at dksX2_reckon_3 4 rfl rfl)
theorem dX2_reckon_74 : decode cX2_reckon 74 = .ok (.getfield 59, 3) := dk_180 0 59 (dk_at dksX2_reckon_3 5 rfl rfl)
theorem dX2_reckon_77 : decode cX2_reckon 77 = .ok (.sipush 4096, 3) := dk_17 16 0 (dk_at dksX2_reckon_3 8 rfl rfl)
theorem dX2_reckon_80 : decode cX2_reckon 80 = .ok (.iload_n 1, 1) := dk_27 (dk_at dksX2_reckon_3 11 rfl rfl)
theorem dX2_reckon_81 : decode cX2_reckon 81 = .ok (.imul, 1) := dk_104 (dk_at dksX2_reckon_3 12 rfl rfl)
theorem dX2_reckon_82 : decode cX2_reckon 82 = .ok (.iload_n 2, 1) := dk_28 (dk_at dksX2_reckon_3 13 rfl rfl)
theorem dX2_reckon_83 : decode cX2_reckon 83 = .ok (.iadd, 1) := dk_96 (dk_at dksX2_reckon_3 14 rfl rfl)
theorem dX2_reckon_84 : decode cX2_reckon 84 = .ok (.lconst 1, 1) := dk_10 (dk_at dksX2_reckon_3 15 rfl rfl)
theorem dX2_reckon_85 : decode cX2_reckon 85 = .ok (.lastore, 1) := dk_80 (dk_at dksX2_reckon_3 16 rfl rfl)
theorem dX2_reckon_86 : decode cX2_reckon 86 = .ok (.iinc 2 1, 3) := dk_132 2 1 (dk_at dksX2_reckon_3 17 rfl rfl)
theorem dX2_reckon_89 : decode cX2_reckon 89 = .ok (.goto (-36), 3) := dk_167 255 220 (dk_at dksX2_reckon_3 20 rfl rfl)
theorem dX2_reckon_92 : decode cX2_reckon 92 = .ok (.iload_n 1, 1) := dk_27 (dk_at dksX2_reckon_3 23 rfl rfl)
theorem dX2_reckon_93 : decode cX2_reckon 93 = .ok (.iconst 1, 1) := dk_4 (dk_at dksX2_reckon_4 0 rfl rfl)
theorem dX2_reckon_94 : decode cX2_reckon 94 = .ok (.isub, 1) := dk_100 (dk_at dksX2_reckon_4 1 rfl rfl)
theorem dX2_reckon_95 : decode cX2_reckon 95 = .ok (.istore_n 2, 1) := dk_61 (dk_at dksX2_reckon_4 2 rfl rfl)
theorem dX2_reckon_96 : decode cX2_reckon 96 = .ok (.iload_n 2, 1) := dk_28 (dk_at dksX2_reckon_4 3 rfl rfl)
theorem dX2_reckon_97 : decode cX2_reckon 97 = .ok (.ifCond .lt 30, 3) := dk_155 0 30 (dk_at dksX2_reckon_4 4 rfl rfl)
theorem dX2_reckon_100 : decode cX2_reckon 100 = .ok (.iconst 0, 1) := dk_3 (dk_at dksX2_reckon_4 7 rfl rfl)
theorem dX2_reckon_101 : decode cX2_reckon 101 = .ok (.istore_n 3, 1) := dk_62 (dk_at dksX2_reckon_4 8 rfl rfl)
theorem dX2_reckon_102 : decode cX2_reckon 102 = .ok (.iload_n 3, 1) := dk_29 (dk_at dksX2_reckon_4 9 rfl rfl)
theorem dX2_reckon_103 : decode cX2_reckon 103 = .ok (.iconst 1, 1) := dk_4 (dk_at dksX2_reckon_4 10 rfl rfl)
theorem dX2_reckon_104 : decode cX2_reckon 104 = .ok (.iload_n 1, 1) := dk_27 (dk_at dksX2_reckon_4 11 rfl rfl)
theorem dX2_reckon_105 : decode cX2_reckon 105 = .ok (.ishl, 1) := dk_120 (dk_at dksX2_reckon_4 12 rfl rfl)
theorem dX2_reckon_106 : decode cX2_reckon 106 = .ok (.if_icmp .ge 15, 3) := dk_162 0 15 (dk_at dksX2_reckon_4 13 rfl rfl)
theorem dX2_reckon_109 : decode cX2_reckon 109 = .ok (.aload_n 0, 1) := dk_42 (dk_at dksX2_reckon_4 16 rfl rfl)
theorem dX2_reckon_110 : decode cX2_reckon 110 = .ok (.iload_n 2, 1) := dk_28 (dk_at dksX2_reckon_4 17 rfl rfl)
theorem dX2_reckon_111 : decode cX2_reckon 111 = .ok (.iload_n 3, 1) := dk_29 (dk_at dksX2_reckon_4 18 rfl rfl)
theorem dX2_reckon_112 : decode cX2_reckon 112 = .ok (.invokevirtual 339, 3) := dk_182 1 83 (dk_at dksX2_reckon_4 19 rfl rfl)
theorem dX2_reckon_115 : decode cX2_reckon 115 = .ok (.iinc 3 1, 3) := dk_132 3 1 (dk_at dksX2_reckon_5 0 rfl rfl)
theorem dX2_reckon_118 : decode cX2_reckon 118 = .ok (.goto (-16), 3) := dk_167 255 240 (dk_at dksX2_reckon_5 3 rfl rfl)
theorem dX2_reckon_121 : decode cX2_reckon 121 = .ok (.iinc 2 (-1), 3) := dk_132 2 255 (dk_at dksX2_reckon_5 6 rfl rfl)
theorem dX2_reckon_124 : decode cX2_reckon 124 = .ok (.goto (-28), 3) := dk_167 255 228 (dk_at dksX2_reckon_5 9 rfl rfl)
theorem dX2_reckon_127 : decode cX2_reckon 127 = .ok (.return_, 1) := dk_177 (dk_at dksX2_reckon_5 12 rfl rfl)
def dkwX2_reckonOne_5 : List UInt8 := [96, 29, 79, 42, 180, 0, 59, 17, 16, 0, 27, 104, 28, 96, 22, 4, 80, 177]
abbrev dktX2_reckonOne_5 : List UInt8 := dkwX2_reckonOne_5 ++ []
def dkwX2_reckonOne_4 : List UInt8 := [21, 7, 47, 55, 4, 21, 8, 62, 132, 6, 1, 167, 255, 160, 42, 180, 0, 56, 17, 16, 0, 27, 104, 28]
abbrev dktX2_reckonOne_4 : List UInt8 := dkwX2_reckonOne_4 ++ dktX2_reckonOne_5
def dkwX2_reckonOne_3 : List UInt8 := [21, 8, 29, 160, 0, 16, 22, 4, 42, 180, 0, 59, 21, 7, 47, 97, 167, 0, 10, 42, 180, 0, 59]
abbrev dktX2_reckonOne_3 : List UInt8 := dkwX2_reckonOne_3 ++ dktX2_reckonOne_4
def dkwX2_reckonOne_2 : List UInt8 := [21, 6, 182, 1, 93, 42, 180, 0, 56, 21, 7, 46, 96, 54, 8, 21, 8, 29, 164, 0, 6, 167, 0, 34]
abbrev dktX2_reckonOne_2 : List UInt8 := dkwX2_reckonOne_2 ++ dktX2_reckonOne_3
def dkwX2_reckonOne_1 : List UInt8 := [21, 6, 28, 182, 1, 87, 154, 0, 6, 167, 0, 70, 42, 27, 21, 6, 28, 182, 1, 90, 54, 7, 42, 27]
abbrev dktX2_reckonOne_1 : List UInt8 := dkwX2_reckonOne_1 ++ dktX2_reckonOne_2
def dkwX2_reckonOne_0 : List UInt8 := [19, 1, 86, 62, 9, 55, 4, 2, 54, 6, 21, 6, 42, 180, 0, 7, 16, 6, 46, 162, 0, 90, 42, 27]
abbrev dktX2_reckonOne_0 : List UInt8 := dkwX2_reckonOne_0 ++ dktX2_reckonOne_1
theorem dksX2_reckonOne_0 : cX2_reckonOne.data.toList.drop 0 = dktX2_reckonOne_0 := by decide +kernel
theorem dksX2_reckonOne_1 : cX2_reckonOne.data.toList.drop 24 = dktX2_reckonOne_1 := dk_seg dksX2_reckonOne_0 24 rfl rfl
theorem dksX2_reckonOne_2 : cX2_reckonOne.data.toList.drop 48 = dktX2_reckonOne_2 := dk_seg dksX2_reckonOne_1 24 rfl rfl
theorem dksX2_reckonOne_3 : cX2_reckonOne.data.toList.drop 72 = dktX2_reckonOne_3 := dk_seg dksX2_reckonOne_2 24 rfl rfl
theorem dksX2_reckonOne_4 : cX2_reckonOne.data.toList.drop 95 = dktX2_reckonOne_4 := dk_seg dksX2_reckonOne_3 23 rfl rfl
theorem dksX2_reckonOne_5 : cX2_reckonOne.data.toList.drop 119 = dktX2_reckonOne_5 := dk_seg dksX2_reckonOne_4 24 rfl rfl
theorem dX2_reckonOne_0 : decode cX2_reckonOne 0 = .ok (.ldc_w 342, 3) := dk_19 1 86 (dk_at dksX2_reckonOne_0 0 rfl rfl)
theorem dX2_reckonOne_3 : decode cX2_reckonOne 3 = .ok (.istore_n 3, 1) := dk_62 (dk_at dksX2_reckonOne_0 3 rfl rfl)
theorem dX2_reckonOne_4 : decode cX2_reckonOne 4 = .ok (.lconst 0, 1) := dk_9 (dk_at dksX2_reckonOne_0 4 rfl rfl)
theorem dX2_reckonOne_5 : decode cX2_reckonOne 5 = .ok (.lstore 4, 2) := dk_55 4 (dk_at dksX2_reckonOne_0 5 rfl rfl)
theorem dX2_reckonOne_7 : decode cX2_reckonOne 7 = .ok (.iconst (-1), 1) := dk_2 (dk_at dksX2_reckonOne_0 7 rfl rfl)
theorem dX2_reckonOne_8 : decode cX2_reckonOne 8 = .ok (.istore 6, 2) := dk_54 6 (dk_at dksX2_reckonOne_0 8 rfl rfl)
theorem dX2_reckonOne_10 : decode cX2_reckonOne 10 = .ok (.iload 6, 2) := dk_21 6 (dk_at dksX2_reckonOne_0 10 rfl rfl)
theorem dX2_reckonOne_12 : decode cX2_reckonOne 12 = .ok (.aload_n 0, 1) := dk_42 (dk_at dksX2_reckonOne_0 12 rfl rfl)
theorem dX2_reckonOne_13 : decode cX2_reckonOne 13 = .ok (.getfield 7, 3) := dk_180 0 7 (dk_at dksX2_reckonOne_0 13 rfl rfl)
theorem dX2_reckonOne_16 : decode cX2_reckonOne 16 = .ok (.bipush 6, 2) := dk_16 6 (dk_at dksX2_reckonOne_0 16 rfl rfl)
theorem dX2_reckonOne_18 : decode cX2_reckonOne 18 = .ok (.iaload, 1) := dk_46 (dk_at dksX2_reckonOne_0 18 rfl rfl)
theorem dX2_reckonOne_19 : decode cX2_reckonOne 19 = .ok (.if_icmp .ge 90, 3) := dk_162 0 90 (dk_at dksX2_reckonOne_0 19 rfl rfl)
theorem dX2_reckonOne_22 : decode cX2_reckonOne 22 = .ok (.aload_n 0, 1) := dk_42 (dk_at dksX2_reckonOne_0 22 rfl rfl)
theorem dX2_reckonOne_23 : decode cX2_reckonOne 23 = .ok (.iload_n 1, 1) := dk_27 (dk_at dksX2_reckonOne_0 23 rfl rfl)
theorem dX2_reckonOne_24 : decode cX2_reckonOne 24 = .ok (.iload 6, 2) := dk_21 6 (dk_at dksX2_reckonOne_1 0 rfl rfl)
theorem dX2_reckonOne_26 : decode cX2_reckonOne 26 = .ok (.iload_n 2, 1) := dk_28 (dk_at dksX2_reckonOne_1 2 rfl rfl)
theorem dX2_reckonOne_27 : decode cX2_reckonOne 27 = .ok (.invokevirtual 343, 3) := dk_182 1 87 (dk_at dksX2_reckonOne_1 3 rfl rfl)
theorem dX2_reckonOne_30 : decode cX2_reckonOne 30 = .ok (.ifCond .ne 6, 3) := dk_154 0 6 (dk_at dksX2_reckonOne_1 6 rfl rfl)
theorem dX2_reckonOne_33 : decode cX2_reckonOne 33 = .ok (.goto 70, 3) := dk_167 0 70 (dk_at dksX2_reckonOne_1 9 rfl rfl)
theorem dX2_reckonOne_36 : decode cX2_reckonOne 36 = .ok (.aload_n 0, 1) := dk_42 (dk_at dksX2_reckonOne_1 12 rfl rfl)
theorem dX2_reckonOne_37 : decode cX2_reckonOne 37 = .ok (.iload_n 1, 1) := dk_27 (dk_at dksX2_reckonOne_1 13 rfl rfl)
theorem dX2_reckonOne_38 : decode cX2_reckonOne 38 = .ok (.iload 6, 2) := dk_21 6 (dk_at dksX2_reckonOne_1 14 rfl rfl)
theorem dX2_reckonOne_40 : decode cX2_reckonOne 40 = .ok (.iload_n 2, 1) := dk_28 (dk_at dksX2_reckonOne_1 16 rfl rfl)
theorem dX2_reckonOne_41 : decode cX2_reckonOne 41 = .ok (.invokevirtual 346, 3) := dk_182 1 90 (dk_at dksX2_reckonOne_1 17 rfl rfl)
theorem dX2_reckonOne_44 : decode cX2_reckonOne 44 = .ok (.istore 7, 2) := dk_54 7 (dk_at dksX2_reckonOne_1 20 rfl rfl)
theorem dX2_reckonOne_46 : decode cX2_reckonOne 46 = .ok (.aload_n 0, 1) := dk_42 (dk_at dksX2_reckonOne_1 22 rfl rfl)
theorem dX2_reckonOne_47 : decode cX2_reckonOne 47 = .ok (.iload_n 1, 1) := dk_27 (dk_at dksX2_reckonOne_1 23 rfl rfl)
theorem dX2_reckonOne_48 : decode cX2_reckonOne 48 = .ok (.iload 6, 2) := dk_21 6 (dk_at dksX2_reckonOne_2 0 rfl rfl)
theorem dX2_reckonOne_50 : decode cX2_reckonOne 50 = .ok (.invokevirtual 349, 3) := dk_182 1 93 (dk_at dksX2_reckonOne_2 2 rfl rfl)
theorem dX2_reckonOne_53 : decode cX2_reckonOne 53 = .ok (.aload_n 0, 1) := dk_42 (dk_at dksX2_reckonOne_2 5 rfl rfl)
theorem dX2_reckonOne_54 : decode cX2_reckonOne 54 = .ok (.getfield 56, 3) := dk_180 0 56 (dk_at dksX2_reckonOne_2 6 rfl rfl)
theorem dX2_reckonOne_57 : decode cX2_reckonOne 57 = .ok (.iload 7, 2) := dk_21 7 (dk_at dksX2_reckonOne_2 9 rfl rfl)
theorem dX2_reckonOne_59 : decode cX2_reckonOne 59 = .ok (.iaload, 1) := dk_46 (dk_at dksX2_reckonOne_2 11 rfl rfl)
theorem dX2_reckonOne_60 : decode cX2_reckonOne 60 = .ok (.iadd, 1) := dk_96 (dk_at dksX2_reckonOne_2 12 rfl rfl)
theorem dX2_reckonOne_61 : decode cX2_reckonOne 61 = .ok (.istore 8, 2) := dk_54 8 (dk_at dksX2_reckonOne_2 13 rfl rfl)
theorem dX2_reckonOne_63 : decode cX2_reckonOne 63 = .ok (.iload 8, 2) := dk_21 8 (dk_at dksX2_reckonOne_2 15 rfl rfl)
theorem dX2_reckonOne_65 : decode cX2_reckonOne 65 = .ok (.iload_n 3, 1) := dk_29 (dk_at dksX2_reckonOne_2 17 rfl rfl)
theorem dX2_reckonOne_66 : decode cX2_reckonOne 66 = .ok (.if_icmp .le 6, 3) := dk_164 0 6 (dk_at dksX2_reckonOne_2 18 rfl rfl)
theorem dX2_reckonOne_69 : decode cX2_reckonOne 69 = .ok (.goto 34, 3) := dk_167 0 34 (dk_at dksX2_reckonOne_2 21 rfl rfl)
theorem dX2_reckonOne_72 : decode cX2_reckonOne 72 = .ok (.iload 8, 2) := dk_21 8 (dk_at dksX2_reckonOne_3 0 rfl rfl)
theorem dX2_reckonOne_74 : decode cX2_reckonOne 74 = .ok (.iload_n 3, 1) := dk_29 (dk_at dksX2_reckonOne_3 2 rfl rfl)
theorem dX2_reckonOne_75 : decode cX2_reckonOne 75 = .ok (.if_icmp .ne 16, 3) := dk_160 0 16 (dk_at dksX2_reckonOne_3 3 rfl rfl)
theorem dX2_reckonOne_78 : decode cX2_reckonOne 78 = .ok (.lload 4, 2) := dk_22 4 (dk_at dksX2_reckonOne_3 6 rfl rfl)
theorem dX2_reckonOne_80 : decode cX2_reckonOne 80 = .ok (.aload_n 0, 1) := dk_42 (dk_at dksX2_reckonOne_3 8 rfl rfl)
theorem dX2_reckonOne_81 : decode cX2_reckonOne 81 = .ok (.getfield 59, 3) := dk_180 0 59 (dk_at dksX2_reckonOne_3 9 rfl rfl)
theorem dX2_reckonOne_84 : decode cX2_reckonOne 84 = .ok (.iload 7, 2) := dk_21 7 (dk_at dksX2_reckonOne_3 12 rfl rfl)
theorem dX2_reckonOne_86 : decode cX2_reckonOne 86 = .ok (.laload, 1) := dk_47 (dk_at dksX2_reckonOne_3 14 rfl rfl)
theorem dX2_reckonOne_87 : decode cX2_reckonOne 87 = .ok (.ladd, 1) := dk_97 (dk_at dksX2_reckonOne_3 15 rfl rfl)
theorem dX2_reckonOne_88 : decode cX2_reckonOne 88 = .ok (.goto 10, 3) := dk_167 0 10 (dk_at dksX2_reckonOne_3 16 rfl rfl)
theorem dX2_reckonOne_91 : decode cX2_reckonOne 91 = .ok (.aload_n 0, 1) := dk_42 (dk_at dksX2_reckonOne_3 19 rfl rfl)
theorem dX2_reckonOne_92 : decode cX2_reckonOne 92 = .ok (.getfield 59, 3) := dk_180 0 59 (dk_at dksX2_reckonOne_3 20 rfl rfl)
theorem dX2_reckonOne_95 : decode cX2_reckonOne 95 = .ok (.iload 7, 2) := dk_21 7 (dk_at dksX2_reckonOne_4 0 rfl rfl)
theorem dX2_reckonOne_97 : decode cX2_reckonOne 97 = .ok (.laload, 1) := dk_47 (dk_at dksX2_reckonOne_4 2 rfl rfl)
theorem dX2_reckonOne_98 : decode cX2_reckonOne 98 = .ok (.lstore 4, 2) := dk_55 4 (dk_at dksX2_reckonOne_4 3 rfl rfl)
theorem dX2_reckonOne_100 : decode cX2_reckonOne 100 = .ok (.iload 8, 2) := dk_21 8 (dk_at dksX2_reckonOne_4 5 rfl rfl)
theorem dX2_reckonOne_102 : decode cX2_reckonOne 102 = .ok (.istore_n 3, 1) := dk_62 (dk_at dksX2_reckonOne_4 7 rfl rfl)
theorem dX2_reckonOne_103 : decode cX2_reckonOne 103 = .ok (.iinc 6 1, 3) := dk_132 6 1 (dk_at dksX2_reckonOne_4 8 rfl rfl)
theorem dX2_reckonOne_106 : decode cX2_reckonOne 106 = .ok (.goto (-96), 3) := dk_167 255 160 (dk_at dksX2_reckonOne_4 11 rfl rfl)
theorem dX2_reckonOne_109 : decode cX2_reckonOne 109 = .ok (.aload_n 0, 1) := dk_42 (dk_at dksX2_reckonOne_4 14 rfl rfl)
theorem dX2_reckonOne_110 : decode cX2_reckonOne 110 = .ok (.getfield 56, 3) := dk_180 0 56 (dk_at dksX2_reckonOne_4 15 rfl rfl)
theorem dX2_reckonOne_113 : decode cX2_reckonOne 113 = .ok (.sipush 4096, 3) := dk_17 16 0 (dk_at dksX2_reckonOne_4 18 rfl rfl)
theorem dX2_reckonOne_116 : decode cX2_reckonOne 116 = .ok (.iload_n 1, 1) := dk_27 (dk_at dksX2_reckonOne_4 21 rfl rfl)
theorem dX2_reckonOne_117 : decode cX2_reckonOne 117 = .ok (.imul, 1) := dk_104 (dk_at dksX2_reckonOne_4 22 rfl rfl)
theorem dX2_reckonOne_118 : decode cX2_reckonOne 118 = .ok (.iload_n 2, 1) := dk_28 (dk_at dksX2_reckonOne_4 23 rfl rfl)
theorem dX2_reckonOne_119 : decode cX2_reckonOne 119 = .ok (.iadd, 1) := dk_96 (dk_at dksX2_reckonOne_5 0 rfl rfl)
theorem dX2_reckonOne_120 : decode cX2_reckonOne 120 = .ok (.iload_n 3, 1) := dk_29 (dk_at dksX2_reckonOne_5 1 rfl rfl)
theorem dX2_reckonOne_121 : decode cX2_reckonOne 121 = .ok (.iastore, 1) := dk_79 (dk_at dksX2_reckonOne_5 2 rfl rfl)
theorem dX2_reckonOne_122 : decode cX2_reckonOne 122 = .ok (.aload_n 0, 1) := dk_42 (dk_at dksX2_reckonOne_5 3 rfl rfl)
theorem dX2_reckonOne_123 : decode cX2_reckonOne 123 = .ok (.getfield 59, 3) := dk_180 0 59 (dk_at dksX2_reckonOne_5 4 rfl rfl)
theorem dX2_reckonOne_126 : decode cX2_reckonOne 126 = .ok (.sipush 4096, 3) := dk_17 16 0 (dk_at dksX2_reckonOne_5 7 rfl rfl)
theorem dX2_reckonOne_129 : decode cX2_reckonOne 129 = .ok (.iload_n 1, 1) := dk_27 (dk_at dksX2_reckonOne_5 10 rfl rfl)
theorem dX2_reckonOne_130 : decode cX2_reckonOne 130 = .ok (.imul, 1) := dk_104 (dk_at dksX2_reckonOne_5 11 rfl rfl)
theorem dX2_reckonOne_131 : decode cX2_reckonOne 131 = .ok (.iload_n 2, 1) := dk_28 (dk_at dksX2_reckonOne_5 12 rfl rfl)
theorem dX2_reckonOne_132 : decode cX2_reckonOne 132 = .ok (.iadd, 1) := dk_96 (dk_at dksX2_reckonOne_5 13 rfl rfl)
theorem dX2_reckonOne_133 : decode cX2_reckonOne 133 = .ok (.lload 4, 2) := dk_22 4 (dk_at dksX2_reckonOne_5 14 rfl rfl)
theorem dX2_reckonOne_135 : decode cX2_reckonOne 135 = .ok (.lastore, 1) := dk_80 (dk_at dksX2_reckonOne_5 16 rfl rfl)
theorem dX2_reckonOne_136 : decode cX2_reckonOne 136 = .ok (.return_, 1) := dk_177 (dk_at dksX2_reckonOne_5 17 rfl rfl)
def dkwX2_mayBe_1 : List UInt8 := [153, 0, 7, 4, 167, 0, 4, 3, 172]
abbrev dktX2_mayBe_1 : List UInt8 := dkwX2_mayBe_1 ++ []
def dkwX2_mayBe_0 : List UInt8 := [28, 155, 0, 25, 29, 28, 122, 4, 126, 154, 0, 21, 42, 180, 0, 62, 16, 12, 28, 104, 27, 96, 51]
abbrev dktX2_mayBe_0 : List UInt8 := dkwX2_mayBe_0 ++ dktX2_mayBe_1
theorem dksX2_mayBe_0 : cX2_mayBe.data.toList.drop 0 = dktX2_mayBe_0 := by decide +kernel
theorem dksX2_mayBe_1 : cX2_mayBe.data.toList.drop 23 = dktX2_mayBe_1 := dk_seg dksX2_mayBe_0 23 rfl rfl
theorem dX2_mayBe_0 : decode cX2_mayBe 0 = .ok (.iload_n 2, 1) := dk_28 (dk_at dksX2_mayBe_0 0 rfl rfl)
theorem dX2_mayBe_1 : decode cX2_mayBe 1 = .ok (.ifCond .lt 25, 3) := dk_155 0 25 (dk_at dksX2_mayBe_0 1 rfl rfl)
theorem dX2_mayBe_4 : decode cX2_mayBe 4 = .ok (.iload_n 3, 1) := dk_29 (dk_at dksX2_mayBe_0 4 rfl rfl)
theorem dX2_mayBe_5 : decode cX2_mayBe 5 = .ok (.iload_n 2, 1) := dk_28 (dk_at dksX2_mayBe_0 5 rfl rfl)
theorem dX2_mayBe_6 : decode cX2_mayBe 6 = .ok (.ishr, 1) := dk_122 (dk_at dksX2_mayBe_0 6 rfl rfl)
theorem dX2_mayBe_7 : decode cX2_mayBe 7 = .ok (.iconst 1, 1) := dk_4 (dk_at dksX2_mayBe_0 7 rfl rfl)
theorem dX2_mayBe_8 : decode cX2_mayBe 8 = .ok (.iand, 1) := dk_126 (dk_at dksX2_mayBe_0 8 rfl rfl)
theorem dX2_mayBe_9 : decode cX2_mayBe 9 = .ok (.ifCond .ne 21, 3) := dk_154 0 21 (dk_at dksX2_mayBe_0 9 rfl rfl)
theorem dX2_mayBe_12 : decode cX2_mayBe 12 = .ok (.aload_n 0, 1) := dk_42 (dk_at dksX2_mayBe_0 12 rfl rfl)
theorem dX2_mayBe_13 : decode cX2_mayBe 13 = .ok (.getfield 62, 3) := dk_180 0 62 (dk_at dksX2_mayBe_0 13 rfl rfl)
theorem dX2_mayBe_16 : decode cX2_mayBe 16 = .ok (.bipush 12, 2) := dk_16 12 (dk_at dksX2_mayBe_0 16 rfl rfl)
theorem dX2_mayBe_18 : decode cX2_mayBe 18 = .ok (.iload_n 2, 1) := dk_28 (dk_at dksX2_mayBe_0 18 rfl rfl)
theorem dX2_mayBe_19 : decode cX2_mayBe 19 = .ok (.imul, 1) := dk_104 (dk_at dksX2_mayBe_0 19 rfl rfl)
theorem dX2_mayBe_20 : decode cX2_mayBe 20 = .ok (.iload_n 1, 1) := dk_27 (dk_at dksX2_mayBe_0 20 rfl rfl)
theorem dX2_mayBe_21 : decode cX2_mayBe 21 = .ok (.iadd, 1) := dk_96 (dk_at dksX2_mayBe_0 21 rfl rfl)
theorem dX2_mayBe_22 : decode cX2_mayBe 22 = .ok (.baload, 1) := dk_51 (dk_at dksX2_mayBe_0 22 rfl rfl)
theorem dX2_mayBe_23 : decode cX2_mayBe 23 = .ok (.ifCond .eq 7, 3) := dk_153 0 7 (dk_at dksX2_mayBe_1 0 rfl rfl)
theorem dX2_mayBe_26 : decode cX2_mayBe 26 = .ok (.iconst 1, 1) := dk_4 (dk_at dksX2_mayBe_1 3 rfl rfl)
theorem dX2_mayBe_27 : decode cX2_mayBe 27 = .ok (.goto 4, 3) := dk_167 0 4 (dk_at dksX2_mayBe_1 4 rfl rfl)
theorem dX2_mayBe_30 : decode cX2_mayBe 30 = .ok (.iconst 0, 1) := dk_3 (dk_at dksX2_mayBe_1 7 rfl rfl)
theorem dX2_mayBe_31 : decode cX2_mayBe 31 = .ok (.ireturn, 1) := dk_172 (dk_at dksX2_mayBe_1 8 rfl rfl)
def dkwX2_behind_0 : List UInt8 := [17, 16, 0, 27, 4, 96, 104, 28, 156, 0, 7, 29, 167, 0, 8, 29, 4, 28, 120, 128, 96, 172]
abbrev dktX2_behind_0 : List UInt8 := dkwX2_behind_0 ++ []
theorem dksX2_behind_0 : cX2_behind.data.toList.drop 0 = dktX2_behind_0 := by decide +kernel
theorem dX2_behind_0 : decode cX2_behind 0 = .ok (.sipush 4096, 3) := dk_17 16 0 (dk_at dksX2_behind_0 0 rfl rfl)
theorem dX2_behind_3 : decode cX2_behind 3 = .ok (.iload_n 1, 1) := dk_27 (dk_at dksX2_behind_0 3 rfl rfl)
theorem dX2_behind_4 : decode cX2_behind 4 = .ok (.iconst 1, 1) := dk_4 (dk_at dksX2_behind_0 4 rfl rfl)
theorem dX2_behind_5 : decode cX2_behind 5 = .ok (.iadd, 1) := dk_96 (dk_at dksX2_behind_0 5 rfl rfl)
theorem dX2_behind_6 : decode cX2_behind 6 = .ok (.imul, 1) := dk_104 (dk_at dksX2_behind_0 6 rfl rfl)
theorem dX2_behind_7 : decode cX2_behind 7 = .ok (.iload_n 2, 1) := dk_28 (dk_at dksX2_behind_0 7 rfl rfl)
theorem dX2_behind_8 : decode cX2_behind 8 = .ok (.ifCond .ge 7, 3) := dk_156 0 7 (dk_at dksX2_behind_0 8 rfl rfl)
theorem dX2_behind_11 : decode cX2_behind 11 = .ok (.iload_n 3, 1) := dk_29 (dk_at dksX2_behind_0 11 rfl rfl)
theorem dX2_behind_12 : decode cX2_behind 12 = .ok (.goto 8, 3) := dk_167 0 8 (dk_at dksX2_behind_0 12 rfl rfl)
theorem dX2_behind_15 : decode cX2_behind 15 = .ok (.iload_n 3, 1) := dk_29 (dk_at dksX2_behind_0 15 rfl rfl)
theorem dX2_behind_16 : decode cX2_behind 16 = .ok (.iconst 1, 1) := dk_4 (dk_at dksX2_behind_0 16 rfl rfl)
theorem dX2_behind_17 : decode cX2_behind 17 = .ok (.iload_n 2, 1) := dk_28 (dk_at dksX2_behind_0 17 rfl rfl)
theorem dX2_behind_18 : decode cX2_behind 18 = .ok (.ishl, 1) := dk_120 (dk_at dksX2_behind_0 18 rfl rfl)
theorem dX2_behind_19 : decode cX2_behind 19 = .ok (.ior, 1) := dk_128 (dk_at dksX2_behind_0 19 rfl rfl)
theorem dX2_behind_20 : decode cX2_behind 20 = .ok (.iadd, 1) := dk_96 (dk_at dksX2_behind_0 20 rfl rfl)
theorem dX2_behind_21 : decode cX2_behind 21 = .ok (.ireturn, 1) := dk_172 (dk_at dksX2_behind_0 21 rfl rfl)
def dkwX2_costOf_1 : List UInt8 := [16, 126, 7, 28, 104, 96, 46, 159, 0, 7, 4, 167, 0, 4, 3, 172]
abbrev dktX2_costOf_1 : List UInt8 := dkwX2_costOf_1 ++ []
def dkwX2_costOf_0 : List UInt8 := [28, 156, 0, 8, 16, 100, 167, 0, 33, 42, 180, 0, 7, 16, 126, 7, 27, 104, 96, 46, 42, 180, 0, 7]
abbrev dktX2_costOf_0 : List UInt8 := dkwX2_costOf_0 ++ dktX2_costOf_1
theorem dksX2_costOf_0 : cX2_costOf.data.toList.drop 0 = dktX2_costOf_0 := by decide +kernel
theorem dksX2_costOf_1 : cX2_costOf.data.toList.drop 24 = dktX2_costOf_1 := dk_seg dksX2_costOf_0 24 rfl rfl
theorem dX2_costOf_0 : decode cX2_costOf 0 = .ok (.iload_n 2, 1) := dk_28 (dk_at dksX2_costOf_0 0 rfl rfl)
theorem dX2_costOf_1 : decode cX2_costOf 1 = .ok (.ifCond .ge 8, 3) := dk_156 0 8 (dk_at dksX2_costOf_0 1 rfl rfl)
theorem dX2_costOf_4 : decode cX2_costOf 4 = .ok (.bipush 100, 2) := dk_16 100 (dk_at dksX2_costOf_0 4 rfl rfl)
theorem dX2_costOf_6 : decode cX2_costOf 6 = .ok (.goto 33, 3) := dk_167 0 33 (dk_at dksX2_costOf_0 6 rfl rfl)
theorem dX2_costOf_9 : decode cX2_costOf 9 = .ok (.aload_n 0, 1) := dk_42 (dk_at dksX2_costOf_0 9 rfl rfl)
theorem dX2_costOf_10 : decode cX2_costOf 10 = .ok (.getfield 7, 3) := dk_180 0 7 (dk_at dksX2_costOf_0 10 rfl rfl)
theorem dX2_costOf_13 : decode cX2_costOf 13 = .ok (.bipush 126, 2) := dk_16 126 (dk_at dksX2_costOf_0 13 rfl rfl)
theorem dX2_costOf_15 : decode cX2_costOf 15 = .ok (.iconst 4, 1) := dk_7 (dk_at dksX2_costOf_0 15 rfl rfl)
theorem dX2_costOf_16 : decode cX2_costOf 16 = .ok (.iload_n 1, 1) := dk_27 (dk_at dksX2_costOf_0 16 rfl rfl)
theorem dX2_costOf_17 : decode cX2_costOf 17 = .ok (.imul, 1) := dk_104 (dk_at dksX2_costOf_0 17 rfl rfl)
theorem dX2_costOf_18 : decode cX2_costOf 18 = .ok (.iadd, 1) := dk_96 (dk_at dksX2_costOf_0 18 rfl rfl)
theorem dX2_costOf_19 : decode cX2_costOf 19 = .ok (.iaload, 1) := dk_46 (dk_at dksX2_costOf_0 19 rfl rfl)
theorem dX2_costOf_20 : decode cX2_costOf 20 = .ok (.aload_n 0, 1) := dk_42 (dk_at dksX2_costOf_0 20 rfl rfl)
theorem dX2_costOf_21 : decode cX2_costOf 21 = .ok (.getfield 7, 3) := dk_180 0 7 (dk_at dksX2_costOf_0 21 rfl rfl)
theorem dX2_costOf_24 : decode cX2_costOf 24 = .ok (.bipush 126, 2) := dk_16 126 (dk_at dksX2_costOf_1 0 rfl rfl)
theorem dX2_costOf_26 : decode cX2_costOf 26 = .ok (.iconst 4, 1) := dk_7 (dk_at dksX2_costOf_1 2 rfl rfl)
theorem dX2_costOf_27 : decode cX2_costOf 27 = .ok (.iload_n 2, 1) := dk_28 (dk_at dksX2_costOf_1 3 rfl rfl)
theorem dX2_costOf_28 : decode cX2_costOf 28 = .ok (.imul, 1) := dk_104 (dk_at dksX2_costOf_1 4 rfl rfl)
theorem dX2_costOf_29 : decode cX2_costOf 29 = .ok (.iadd, 1) := dk_96 (dk_at dksX2_costOf_1 5 rfl rfl)
theorem dX2_costOf_30 : decode cX2_costOf 30 = .ok (.iaload, 1) := dk_46 (dk_at dksX2_costOf_1 6 rfl rfl)
theorem dX2_costOf_31 : decode cX2_costOf 31 = .ok (.if_icmp .eq 7, 3) := dk_159 0 7 (dk_at dksX2_costOf_1 7 rfl rfl)
theorem dX2_costOf_34 : decode cX2_costOf 34 = .ok (.iconst 1, 1) := dk_4 (dk_at dksX2_costOf_1 10 rfl rfl)
theorem dX2_costOf_35 : decode cX2_costOf 35 = .ok (.goto 4, 3) := dk_167 0 4 (dk_at dksX2_costOf_1 11 rfl rfl)
theorem dX2_costOf_38 : decode cX2_costOf 38 = .ok (.iconst 0, 1) := dk_3 (dk_at dksX2_costOf_1 14 rfl rfl)
theorem dX2_costOf_39 : decode cX2_costOf 39 = .ok (.ireturn, 1) := dk_172 (dk_at dksX2_costOf_1 15 rfl rfl)
def dkwX2_histories_0 : List UInt8 := [42, 182, 1, 96, 42, 180, 0, 59, 3, 47, 173]
abbrev dktX2_histories_0 : List UInt8 := dkwX2_histories_0 ++ []
theorem dksX2_histories_0 : cX2_histories.data.toList.drop 0 = dktX2_histories_0 := by decide +kernel
theorem dX2_histories_0 : decode cX2_histories 0 = .ok (.aload_n 0, 1) := dk_42 (dk_at dksX2_histories_0 0 rfl rfl)
theorem dX2_histories_1 : decode cX2_histories 1 = .ok (.invokevirtual 352, 3) := dk_182 1 96 (dk_at dksX2_histories_0 1 rfl rfl)
theorem dX2_histories_4 : decode cX2_histories 4 = .ok (.aload_n 0, 1) := dk_42 (dk_at dksX2_histories_0 4 rfl rfl)
theorem dX2_histories_5 : decode cX2_histories 5 = .ok (.getfield 59, 3) := dk_180 0 59 (dk_at dksX2_histories_0 5 rfl rfl)
theorem dX2_histories_8 : decode cX2_histories 8 = .ok (.iconst 0, 1) := dk_3 (dk_at dksX2_histories_0 8 rfl rfl)
theorem dX2_histories_9 : decode cX2_histories 9 = .ok (.laload, 1) := dk_47 (dk_at dksX2_histories_0 9 rfl rfl)
theorem dX2_histories_10 : decode cX2_histories 10 = .ok (.lreturn, 1) := dk_173 (dk_at dksX2_histories_0 10 rfl rfl)
def dkwX2_led_5 : List UInt8 := [96, 104, 100, 61, 132, 3, 1, 167, 255, 161, 2, 172]
abbrev dktX2_led_5 : List UInt8 := dkwX2_led_5 ++ []
def dkwX2_led_4 : List UInt8 := [167, 255, 206, 29, 27, 160, 0, 6, 21, 4, 172, 42, 29, 21, 4, 28, 182, 1, 90, 17, 16, 0, 29, 4]
abbrev dktX2_led_4 : List UInt8 := dkwX2_led_4 ++ dktX2_led_5
def dkwX2_led_3 : List UInt8 := [182, 1, 90, 46, 96, 42, 180, 0, 56, 17, 16, 0, 29, 104, 28, 96, 46, 159, 0, 9, 132, 4, 1]
abbrev dktX2_led_3 : List UInt8 := dkwX2_led_3 ++ dktX2_led_4
def dkwX2_led_2 : List UInt8 := [182, 1, 87, 153, 0, 39, 42, 29, 21, 4, 182, 1, 93, 42, 180, 0, 56, 42, 29, 21, 4, 28]
abbrev dktX2_led_2 : List UInt8 := dkwX2_led_2 ++ dktX2_led_3
def dkwX2_led_1 : List UInt8 := [3, 61, 3, 62, 29, 42, 180, 0, 7, 16, 6, 46, 162, 0, 90, 2, 54, 4, 42, 29, 21, 4, 28]
abbrev dktX2_led_1 : List UInt8 := dkwX2_led_1 ++ dktX2_led_2
def dkwX2_led_0 : List UInt8 := [27, 3, 42, 180, 0, 7, 16, 6, 46, 4, 100, 184, 0, 75, 154, 0, 6, 16, 254, 172, 42, 182, 1, 96]
abbrev dktX2_led_0 : List UInt8 := dkwX2_led_0 ++ dktX2_led_1
theorem dksX2_led_0 : cX2_led.data.toList.drop 0 = dktX2_led_0 := by decide +kernel
theorem dksX2_led_1 : cX2_led.data.toList.drop 24 = dktX2_led_1 := dk_seg dksX2_led_0 24 rfl rfl
theorem dksX2_led_2 : cX2_led.data.toList.drop 47 = dktX2_led_2 := dk_seg dksX2_led_1 23 rfl rfl
theorem dksX2_led_3 : cX2_led.data.toList.drop 69 = dktX2_led_3 := dk_seg dksX2_led_2 22 rfl rfl
theorem dksX2_led_4 : cX2_led.data.toList.drop 92 = dktX2_led_4 := dk_seg dksX2_led_3 23 rfl rfl
theorem dksX2_led_5 : cX2_led.data.toList.drop 116 = dktX2_led_5 := dk_seg dksX2_led_4 24 rfl rfl
theorem dX2_led_0 : decode cX2_led 0 = .ok (.iload_n 1, 1) := dk_27 (dk_at dksX2_led_0 0 rfl rfl)
theorem dX2_led_1 : decode cX2_led 1 = .ok (.iconst 0, 1) := dk_3 (dk_at dksX2_led_0 1 rfl rfl)
theorem dX2_led_2 : decode cX2_led 2 = .ok (.aload_n 0, 1) := dk_42 (dk_at dksX2_led_0 2 rfl rfl)
theorem dX2_led_3 : decode cX2_led 3 = .ok (.getfield 7, 3) := dk_180 0 7 (dk_at dksX2_led_0 3 rfl rfl)
theorem dX2_led_6 : decode cX2_led 6 = .ok (.bipush 6, 2) := dk_16 6 (dk_at dksX2_led_0 6 rfl rfl)
theorem dX2_led_8 : decode cX2_led 8 = .ok (.iaload, 1) := dk_46 (dk_at dksX2_led_0 8 rfl rfl)
theorem dX2_led_9 : decode cX2_led 9 = .ok (.iconst 1, 1) := dk_4 (dk_at dksX2_led_0 9 rfl rfl)
theorem dX2_led_10 : decode cX2_led 10 = .ok (.isub, 1) := dk_100 (dk_at dksX2_led_0 10 rfl rfl)
theorem dX2_led_11 : decode cX2_led 11 = .ok (.invokestatic 75, 3) := dk_184 0 75 (dk_at dksX2_led_0 11 rfl rfl)
theorem dX2_led_14 : decode cX2_led 14 = .ok (.ifCond .ne 6, 3) := dk_154 0 6 (dk_at dksX2_led_0 14 rfl rfl)
theorem dX2_led_17 : decode cX2_led 17 = .ok (.bipush (-2), 2) := dk_16 254 (dk_at dksX2_led_0 17 rfl rfl)
theorem dX2_led_19 : decode cX2_led 19 = .ok (.ireturn, 1) := dk_172 (dk_at dksX2_led_0 19 rfl rfl)
theorem dX2_led_20 : decode cX2_led 20 = .ok (.aload_n 0, 1) := dk_42 (dk_at dksX2_led_0 20 rfl rfl)
theorem dX2_led_21 : decode cX2_led 21 = .ok (.invokevirtual 352, 3) := dk_182 1 96 (dk_at dksX2_led_0 21 rfl rfl)
theorem dX2_led_24 : decode cX2_led 24 = .ok (.iconst 0, 1) := dk_3 (dk_at dksX2_led_1 0 rfl rfl)
theorem dX2_led_25 : decode cX2_led 25 = .ok (.istore_n 2, 1) := dk_61 (dk_at dksX2_led_1 1 rfl rfl)
theorem dX2_led_26 : decode cX2_led 26 = .ok (.iconst 0, 1) := dk_3 (dk_at dksX2_led_1 2 rfl rfl)
theorem dX2_led_27 : decode cX2_led 27 = .ok (.istore_n 3, 1) := dk_62 (dk_at dksX2_led_1 3 rfl rfl)
theorem dX2_led_28 : decode cX2_led 28 = .ok (.iload_n 3, 1) := dk_29 (dk_at dksX2_led_1 4 rfl rfl)
theorem dX2_led_29 : decode cX2_led 29 = .ok (.aload_n 0, 1) := dk_42 (dk_at dksX2_led_1 5 rfl rfl)
theorem dX2_led_30 : decode cX2_led 30 = .ok (.getfield 7, 3) := dk_180 0 7 (dk_at dksX2_led_1 6 rfl rfl)
theorem dX2_led_33 : decode cX2_led 33 = .ok (.bipush 6, 2) := dk_16 6 (dk_at dksX2_led_1 9 rfl rfl)
theorem dX2_led_35 : decode cX2_led 35 = .ok (.iaload, 1) := dk_46 (dk_at dksX2_led_1 11 rfl rfl)
theorem dX2_led_36 : decode cX2_led 36 = .ok (.if_icmp .ge 90, 3) := dk_162 0 90 (dk_at dksX2_led_1 12 rfl rfl)
theorem dX2_led_39 : decode cX2_led 39 = .ok (.iconst (-1), 1) := dk_2 (dk_at dksX2_led_1 15 rfl rfl)
theorem dX2_led_40 : decode cX2_led 40 = .ok (.istore 4, 2) := dk_54 4 (dk_at dksX2_led_1 16 rfl rfl)
theorem dX2_led_42 : decode cX2_led 42 = .ok (.aload_n 0, 1) := dk_42 (dk_at dksX2_led_1 18 rfl rfl)
theorem dX2_led_43 : decode cX2_led 43 = .ok (.iload_n 3, 1) := dk_29 (dk_at dksX2_led_1 19 rfl rfl)
theorem dX2_led_44 : decode cX2_led 44 = .ok (.iload 4, 2) := dk_21 4 (dk_at dksX2_led_1 20 rfl rfl)
theorem dX2_led_46 : decode cX2_led 46 = .ok (.iload_n 2, 1) := dk_28 (dk_at dksX2_led_1 22 rfl rfl)
theorem dX2_led_47 : decode cX2_led 47 = .ok (.invokevirtual 343, 3) := dk_182 1 87 (dk_at dksX2_led_2 0 rfl rfl)
theorem dX2_led_50 : decode cX2_led 50 = .ok (.ifCond .eq 39, 3) := dk_153 0 39 (dk_at dksX2_led_2 3 rfl rfl)
theorem dX2_led_53 : decode cX2_led 53 = .ok (.aload_n 0, 1) := dk_42 (dk_at dksX2_led_2 6 rfl rfl)
theorem dX2_led_54 : decode cX2_led 54 = .ok (.iload_n 3, 1) := dk_29 (dk_at dksX2_led_2 7 rfl rfl)
theorem dX2_led_55 : decode cX2_led 55 = .ok (.iload 4, 2) := dk_21 4 (dk_at dksX2_led_2 8 rfl rfl)
theorem dX2_led_57 : decode cX2_led 57 = .ok (.invokevirtual 349, 3) := dk_182 1 93 (dk_at dksX2_led_2 10 rfl rfl)
theorem dX2_led_60 : decode cX2_led 60 = .ok (.aload_n 0, 1) := dk_42 (dk_at dksX2_led_2 13 rfl rfl)
theorem dX2_led_61 : decode cX2_led 61 = .ok (.getfield 56, 3) := dk_180 0 56 (dk_at dksX2_led_2 14 rfl rfl)
theorem dX2_led_64 : decode cX2_led 64 = .ok (.aload_n 0, 1) := dk_42 (dk_at dksX2_led_2 17 rfl rfl)
theorem dX2_led_65 : decode cX2_led 65 = .ok (.iload_n 3, 1) := dk_29 (dk_at dksX2_led_2 18 rfl rfl)
theorem dX2_led_66 : decode cX2_led 66 = .ok (.iload 4, 2) := dk_21 4 (dk_at dksX2_led_2 19 rfl rfl)
theorem dX2_led_68 : decode cX2_led 68 = .ok (.iload_n 2, 1) := dk_28 (dk_at dksX2_led_2 21 rfl rfl)
theorem dX2_led_69 : decode cX2_led 69 = .ok (.invokevirtual 346, 3) := dk_182 1 90 (dk_at dksX2_led_3 0 rfl rfl)
theorem dX2_led_72 : decode cX2_led 72 = .ok (.iaload, 1) := dk_46 (dk_at dksX2_led_3 3 rfl rfl)
theorem dX2_led_73 : decode cX2_led 73 = .ok (.iadd, 1) := dk_96 (dk_at dksX2_led_3 4 rfl rfl)
theorem dX2_led_74 : decode cX2_led 74 = .ok (.aload_n 0, 1) := dk_42 (dk_at dksX2_led_3 5 rfl rfl)
theorem dX2_led_75 : decode cX2_led 75 = .ok (.getfield 56, 3) := dk_180 0 56 (dk_at dksX2_led_3 6 rfl rfl)
theorem dX2_led_78 : decode cX2_led 78 = .ok (.sipush 4096, 3) := dk_17 16 0 (dk_at dksX2_led_3 9 rfl rfl)
theorem dX2_led_81 : decode cX2_led 81 = .ok (.iload_n 3, 1) := dk_29 (dk_at dksX2_led_3 12 rfl rfl)
theorem dX2_led_82 : decode cX2_led 82 = .ok (.imul, 1) := dk_104 (dk_at dksX2_led_3 13 rfl rfl)
theorem dX2_led_83 : decode cX2_led 83 = .ok (.iload_n 2, 1) := dk_28 (dk_at dksX2_led_3 14 rfl rfl)
theorem dX2_led_84 : decode cX2_led 84 = .ok (.iadd, 1) := dk_96 (dk_at dksX2_led_3 15 rfl rfl)
theorem dX2_led_85 : decode cX2_led 85 = .ok (.iaload, 1) := dk_46 (dk_at dksX2_led_3 16 rfl rfl)
theorem dX2_led_86 : decode cX2_led 86 = .ok (.if_icmp .eq 9, 3) := dk_159 0 9 (dk_at dksX2_led_3 17 rfl rfl)
theorem dX2_led_89 : decode cX2_led 89 = .ok (.iinc 4 1, 3) := dk_132 4 1 (dk_at dksX2_led_3 20 rfl rfl)
theorem dX2_led_92 : decode cX2_led 92 = .ok (.goto (-50), 3) := dk_167 255 206 (dk_at dksX2_led_4 0 rfl rfl)
theorem dX2_led_95 : decode cX2_led 95 = .ok (.iload_n 3, 1) := dk_29 (dk_at dksX2_led_4 3 rfl rfl)
theorem dX2_led_96 : decode cX2_led 96 = .ok (.iload_n 1, 1) := dk_27 (dk_at dksX2_led_4 4 rfl rfl)
theorem dX2_led_97 : decode cX2_led 97 = .ok (.if_icmp .ne 6, 3) := dk_160 0 6 (dk_at dksX2_led_4 5 rfl rfl)
theorem dX2_led_100 : decode cX2_led 100 = .ok (.iload 4, 2) := dk_21 4 (dk_at dksX2_led_4 8 rfl rfl)
theorem dX2_led_102 : decode cX2_led 102 = .ok (.ireturn, 1) := dk_172 (dk_at dksX2_led_4 10 rfl rfl)
theorem dX2_led_103 : decode cX2_led 103 = .ok (.aload_n 0, 1) := dk_42 (dk_at dksX2_led_4 11 rfl rfl)
theorem dX2_led_104 : decode cX2_led 104 = .ok (.iload_n 3, 1) := dk_29 (dk_at dksX2_led_4 12 rfl rfl)
theorem dX2_led_105 : decode cX2_led 105 = .ok (.iload 4, 2) := dk_21 4 (dk_at dksX2_led_4 13 rfl rfl)
theorem dX2_led_107 : decode cX2_led 107 = .ok (.iload_n 2, 1) := dk_28 (dk_at dksX2_led_4 15 rfl rfl)
theorem dX2_led_108 : decode cX2_led 108 = .ok (.invokevirtual 346, 3) := dk_182 1 90 (dk_at dksX2_led_4 16 rfl rfl)
theorem dX2_led_111 : decode cX2_led 111 = .ok (.sipush 4096, 3) := dk_17 16 0 (dk_at dksX2_led_4 19 rfl rfl)
theorem dX2_led_114 : decode cX2_led 114 = .ok (.iload_n 3, 1) := dk_29 (dk_at dksX2_led_4 22 rfl rfl)
theorem dX2_led_115 : decode cX2_led 115 = .ok (.iconst 1, 1) := dk_4 (dk_at dksX2_led_4 23 rfl rfl)
theorem dX2_led_116 : decode cX2_led 116 = .ok (.iadd, 1) := dk_96 (dk_at dksX2_led_5 0 rfl rfl)
theorem dX2_led_117 : decode cX2_led 117 = .ok (.imul, 1) := dk_104 (dk_at dksX2_led_5 1 rfl rfl)
theorem dX2_led_118 : decode cX2_led 118 = .ok (.isub, 1) := dk_100 (dk_at dksX2_led_5 2 rfl rfl)
theorem dX2_led_119 : decode cX2_led 119 = .ok (.istore_n 2, 1) := dk_61 (dk_at dksX2_led_5 3 rfl rfl)
theorem dX2_led_120 : decode cX2_led 120 = .ok (.iinc 3 1, 3) := dk_132 3 1 (dk_at dksX2_led_5 4 rfl rfl)
theorem dX2_led_123 : decode cX2_led 123 = .ok (.goto (-95), 3) := dk_167 255 161 (dk_at dksX2_led_5 7 rfl rfl)
theorem dX2_led_126 : decode cX2_led 126 = .ok (.iconst (-1), 1) := dk_2 (dk_at dksX2_led_5 10 rfl rfl)
theorem dX2_led_127 : decode cX2_led 127 = .ok (.ireturn, 1) := dk_172 (dk_at dksX2_led_5 11 rfl rfl)
def dkwX2_chance_5 : List UInt8 := [109, 173]
abbrev dktX2_chance_5 : List UInt8 := dkwX2_chance_5 ++ []
def dkwX2_chance_4 : List UInt8 := [184, 1, 105, 55, 7, 21, 4, 154, 0, 8, 22, 5, 167, 0, 5, 22, 7, 22, 5, 22, 7, 184, 1, 108]
abbrev dktX2_chance_4 : List UInt8 := dkwX2_chance_4 ++ dktX2_chance_5
def dkwX2_chance_3 : List UInt8 := [16, 6, 29, 100, 27, 21, 7, 100, 184, 1, 105, 105, 97, 55, 5, 132, 7, 1, 167, 255, 217, 16, 6, 27]
abbrev dktX2_chance_3 : List UInt8 := dkwX2_chance_3 ++ dktX2_chance_4
def dkwX2_chance_2 : List UInt8 := [54, 7, 21, 7, 27, 163, 0, 39, 22, 5, 27, 21, 7, 184, 1, 101, 29, 21, 7, 184, 1, 105, 105]
abbrev dktX2_chance_2 : List UInt8 := dkwX2_chance_2 ++ dktX2_chance_3
def dkwX2_chance_1 : List UInt8 := [184, 0, 75, 153, 0, 13, 21, 4, 3, 4, 184, 0, 75, 154, 0, 7, 20, 1, 99, 173, 9, 55, 5, 28]
abbrev dktX2_chance_1 : List UInt8 := dkwX2_chance_1 ++ dktX2_chance_2
def dkwX2_chance_0 : List UInt8 := [27, 3, 16, 20, 184, 0, 75, 153, 0, 32, 28, 3, 27, 184, 0, 75, 153, 0, 23, 29, 3, 16, 6]
abbrev dktX2_chance_0 : List UInt8 := dkwX2_chance_0 ++ dktX2_chance_1
theorem dksX2_chance_0 : cX2_chance.data.toList.drop 0 = dktX2_chance_0 := by decide +kernel
theorem dksX2_chance_1 : cX2_chance.data.toList.drop 23 = dktX2_chance_1 := dk_seg dksX2_chance_0 23 rfl rfl
theorem dksX2_chance_2 : cX2_chance.data.toList.drop 47 = dktX2_chance_2 := dk_seg dksX2_chance_1 24 rfl rfl
theorem dksX2_chance_3 : cX2_chance.data.toList.drop 70 = dktX2_chance_3 := dk_seg dksX2_chance_2 23 rfl rfl
theorem dksX2_chance_4 : cX2_chance.data.toList.drop 94 = dktX2_chance_4 := dk_seg dksX2_chance_3 24 rfl rfl
theorem dksX2_chance_5 : cX2_chance.data.toList.drop 118 = dktX2_chance_5 := dk_seg dksX2_chance_4 24 rfl rfl
theorem dX2_chance_0 : decode cX2_chance 0 = .ok (.iload_n 1, 1) := dk_27 (dk_at dksX2_chance_0 0 rfl rfl)
theorem dX2_chance_1 : decode cX2_chance 1 = .ok (.iconst 0, 1) := dk_3 (dk_at dksX2_chance_0 1 rfl rfl)
theorem dX2_chance_2 : decode cX2_chance 2 = .ok (.bipush 20, 2) := dk_16 20 (dk_at dksX2_chance_0 2 rfl rfl)
theorem dX2_chance_4 : decode cX2_chance 4 = .ok (.invokestatic 75, 3) := dk_184 0 75 (dk_at dksX2_chance_0 4 rfl rfl)
theorem dX2_chance_7 : decode cX2_chance 7 = .ok (.ifCond .eq 32, 3) := dk_153 0 32 (dk_at dksX2_chance_0 7 rfl rfl)
theorem dX2_chance_10 : decode cX2_chance 10 = .ok (.iload_n 2, 1) := dk_28 (dk_at dksX2_chance_0 10 rfl rfl)
theorem dX2_chance_11 : decode cX2_chance 11 = .ok (.iconst 0, 1) := dk_3 (dk_at dksX2_chance_0 11 rfl rfl)
theorem dX2_chance_12 : decode cX2_chance 12 = .ok (.iload_n 1, 1) := dk_27 (dk_at dksX2_chance_0 12 rfl rfl)
theorem dX2_chance_13 : decode cX2_chance 13 = .ok (.invokestatic 75, 3) := dk_184 0 75 (dk_at dksX2_chance_0 13 rfl rfl)
theorem dX2_chance_16 : decode cX2_chance 16 = .ok (.ifCond .eq 23, 3) := dk_153 0 23 (dk_at dksX2_chance_0 16 rfl rfl)
theorem dX2_chance_19 : decode cX2_chance 19 = .ok (.iload_n 3, 1) := dk_29 (dk_at dksX2_chance_0 19 rfl rfl)
theorem dX2_chance_20 : decode cX2_chance 20 = .ok (.iconst 0, 1) := dk_3 (dk_at dksX2_chance_0 20 rfl rfl)
theorem dX2_chance_21 : decode cX2_chance 21 = .ok (.bipush 6, 2) := dk_16 6 (dk_at dksX2_chance_0 21 rfl rfl)
theorem dX2_chance_23 : decode cX2_chance 23 = .ok (.invokestatic 75, 3) := dk_184 0 75 (dk_at dksX2_chance_1 0 rfl rfl)
theorem dX2_chance_26 : decode cX2_chance 26 = .ok (.ifCond .eq 13, 3) := dk_153 0 13 (dk_at dksX2_chance_1 3 rfl rfl)
theorem dX2_chance_29 : decode cX2_chance 29 = .ok (.iload 4, 2) := dk_21 4 (dk_at dksX2_chance_1 6 rfl rfl)
theorem dX2_chance_31 : decode cX2_chance 31 = .ok (.iconst 0, 1) := dk_3 (dk_at dksX2_chance_1 8 rfl rfl)
theorem dX2_chance_32 : decode cX2_chance 32 = .ok (.iconst 1, 1) := dk_4 (dk_at dksX2_chance_1 9 rfl rfl)
theorem dX2_chance_33 : decode cX2_chance 33 = .ok (.invokestatic 75, 3) := dk_184 0 75 (dk_at dksX2_chance_1 10 rfl rfl)
theorem dX2_chance_36 : decode cX2_chance 36 = .ok (.ifCond .ne 7, 3) := dk_154 0 7 (dk_at dksX2_chance_1 13 rfl rfl)
theorem dX2_chance_39 : decode cX2_chance 39 = .ok (.ldc2_w 355, 3) := dk_20 1 99 (dk_at dksX2_chance_1 16 rfl rfl)
theorem dX2_chance_42 : decode cX2_chance 42 = .ok (.lreturn, 1) := dk_173 (dk_at dksX2_chance_1 19 rfl rfl)
theorem dX2_chance_43 : decode cX2_chance 43 = .ok (.lconst 0, 1) := dk_9 (dk_at dksX2_chance_1 20 rfl rfl)
theorem dX2_chance_44 : decode cX2_chance 44 = .ok (.lstore 5, 2) := dk_55 5 (dk_at dksX2_chance_1 21 rfl rfl)
theorem dX2_chance_46 : decode cX2_chance 46 = .ok (.iload_n 2, 1) := dk_28 (dk_at dksX2_chance_1 23 rfl rfl)
theorem dX2_chance_47 : decode cX2_chance 47 = .ok (.istore 7, 2) := dk_54 7 (dk_at dksX2_chance_2 0 rfl rfl)
theorem dX2_chance_49 : decode cX2_chance 49 = .ok (.iload 7, 2) := dk_21 7 (dk_at dksX2_chance_2 2 rfl rfl)
theorem dX2_chance_51 : decode cX2_chance 51 = .ok (.iload_n 1, 1) := dk_27 (dk_at dksX2_chance_2 4 rfl rfl)
theorem dX2_chance_52 : decode cX2_chance 52 = .ok (.if_icmp .gt 39, 3) := dk_163 0 39 (dk_at dksX2_chance_2 5 rfl rfl)
theorem dX2_chance_55 : decode cX2_chance 55 = .ok (.lload 5, 2) := dk_22 5 (dk_at dksX2_chance_2 8 rfl rfl)
theorem dX2_chance_57 : decode cX2_chance 57 = .ok (.iload_n 1, 1) := dk_27 (dk_at dksX2_chance_2 10 rfl rfl)
theorem dX2_chance_58 : decode cX2_chance 58 = .ok (.iload 7, 2) := dk_21 7 (dk_at dksX2_chance_2 11 rfl rfl)
theorem dX2_chance_60 : decode cX2_chance 60 = .ok (.invokestatic 357, 3) := dk_184 1 101 (dk_at dksX2_chance_2 13 rfl rfl)
theorem dX2_chance_63 : decode cX2_chance 63 = .ok (.iload_n 3, 1) := dk_29 (dk_at dksX2_chance_2 16 rfl rfl)
theorem dX2_chance_64 : decode cX2_chance 64 = .ok (.iload 7, 2) := dk_21 7 (dk_at dksX2_chance_2 17 rfl rfl)
theorem dX2_chance_66 : decode cX2_chance 66 = .ok (.invokestatic 361, 3) := dk_184 1 105 (dk_at dksX2_chance_2 19 rfl rfl)
theorem dX2_chance_69 : decode cX2_chance 69 = .ok (.lmul, 1) := dk_105 (dk_at dksX2_chance_2 22 rfl rfl)
theorem dX2_chance_70 : decode cX2_chance 70 = .ok (.bipush 6, 2) := dk_16 6 (dk_at dksX2_chance_3 0 rfl rfl)
theorem dX2_chance_72 : decode cX2_chance 72 = .ok (.iload_n 3, 1) := dk_29 (dk_at dksX2_chance_3 2 rfl rfl)
theorem dX2_chance_73 : decode cX2_chance 73 = .ok (.isub, 1) := dk_100 (dk_at dksX2_chance_3 3 rfl rfl)
theorem dX2_chance_74 : decode cX2_chance 74 = .ok (.iload_n 1, 1) := dk_27 (dk_at dksX2_chance_3 4 rfl rfl)
theorem dX2_chance_75 : decode cX2_chance 75 = .ok (.iload 7, 2) := dk_21 7 (dk_at dksX2_chance_3 5 rfl rfl)
theorem dX2_chance_77 : decode cX2_chance 77 = .ok (.isub, 1) := dk_100 (dk_at dksX2_chance_3 7 rfl rfl)
theorem dX2_chance_78 : decode cX2_chance 78 = .ok (.invokestatic 361, 3) := dk_184 1 105 (dk_at dksX2_chance_3 8 rfl rfl)
theorem dX2_chance_81 : decode cX2_chance 81 = .ok (.lmul, 1) := dk_105 (dk_at dksX2_chance_3 11 rfl rfl)
theorem dX2_chance_82 : decode cX2_chance 82 = .ok (.ladd, 1) := dk_97 (dk_at dksX2_chance_3 12 rfl rfl)
theorem dX2_chance_83 : decode cX2_chance 83 = .ok (.lstore 5, 2) := dk_55 5 (dk_at dksX2_chance_3 13 rfl rfl)
theorem dX2_chance_85 : decode cX2_chance 85 = .ok (.iinc 7 1, 3) := dk_132 7 1 (dk_at dksX2_chance_3 15 rfl rfl)
theorem dX2_chance_88 : decode cX2_chance 88 = .ok (.goto (-39), 3) := dk_167 255 217 (dk_at dksX2_chance_3 18 rfl rfl)
theorem dX2_chance_91 : decode cX2_chance 91 = .ok (.bipush 6, 2) := dk_16 6 (dk_at dksX2_chance_3 21 rfl rfl)
theorem dX2_chance_93 : decode cX2_chance 93 = .ok (.iload_n 1, 1) := dk_27 (dk_at dksX2_chance_3 23 rfl rfl)
theorem dX2_chance_94 : decode cX2_chance 94 = .ok (.invokestatic 361, 3) := dk_184 1 105 (dk_at dksX2_chance_4 0 rfl rfl)
theorem dX2_chance_97 : decode cX2_chance 97 = .ok (.lstore 7, 2) := dk_55 7 (dk_at dksX2_chance_4 3 rfl rfl)
theorem dX2_chance_99 : decode cX2_chance 99 = .ok (.iload 4, 2) := dk_21 4 (dk_at dksX2_chance_4 5 rfl rfl)
theorem dX2_chance_101 : decode cX2_chance 101 = .ok (.ifCond .ne 8, 3) := dk_154 0 8 (dk_at dksX2_chance_4 7 rfl rfl)
theorem dX2_chance_104 : decode cX2_chance 104 = .ok (.lload 5, 2) := dk_22 5 (dk_at dksX2_chance_4 10 rfl rfl)
theorem dX2_chance_106 : decode cX2_chance 106 = .ok (.goto 5, 3) := dk_167 0 5 (dk_at dksX2_chance_4 12 rfl rfl)
theorem dX2_chance_109 : decode cX2_chance 109 = .ok (.lload 7, 2) := dk_22 7 (dk_at dksX2_chance_4 15 rfl rfl)
theorem dX2_chance_111 : decode cX2_chance 111 = .ok (.lload 5, 2) := dk_22 5 (dk_at dksX2_chance_4 17 rfl rfl)
theorem dX2_chance_113 : decode cX2_chance 113 = .ok (.lload 7, 2) := dk_22 7 (dk_at dksX2_chance_4 19 rfl rfl)
theorem dX2_chance_115 : decode cX2_chance 115 = .ok (.invokestatic 364, 3) := dk_184 1 108 (dk_at dksX2_chance_4 21 rfl rfl)
theorem dX2_chance_118 : decode cX2_chance 118 = .ok (.ldiv, 1) := dk_109 (dk_at dksX2_chance_5 0 rfl rfl)
theorem dX2_chance_119 : decode cX2_chance 119 = .ok (.lreturn, 1) := dk_173 (dk_at dksX2_chance_5 1 rfl rfl)
