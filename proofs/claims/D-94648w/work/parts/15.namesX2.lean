set_option maxRecDepth 100000
def dkwX0_manyOf_1 : List UInt8 := [180, 1, 6, 27, 46, 172]
abbrev dktX0_manyOf_1 : List UInt8 := dkwX0_manyOf_1 ++ []
def dkwX0_manyOf_0 : List UInt8 := [42, 182, 0, 171, 77, 44, 198, 0, 12, 44, 180, 1, 6, 27, 46, 154, 0, 7, 4, 167, 0, 9, 44]
abbrev dktX0_manyOf_0 : List UInt8 := dkwX0_manyOf_0 ++ dktX0_manyOf_1
theorem dksX0_manyOf_0 : cX0_manyOf.data.toList.drop 0 = dktX0_manyOf_0 := by decide +kernel
theorem dksX0_manyOf_1 : cX0_manyOf.data.toList.drop 23 = dktX0_manyOf_1 := dk_seg dksX0_manyOf_0 23 rfl rfl
theorem dX0_manyOf_0 : decode cX0_manyOf 0 = .ok (.aload_n 0, 1) := dk_42 (dk_at dksX0_manyOf_0 0 rfl rfl)
theorem dX0_manyOf_1 : decode cX0_manyOf 1 = .ok (.invokevirtual 171, 3) := dk_182 0 171 (dk_at dksX0_manyOf_0 1 rfl rfl)
theorem dX0_manyOf_4 : decode cX0_manyOf 4 = .ok (.astore_n 2, 1) := dk_77 (dk_at dksX0_manyOf_0 4 rfl rfl)
theorem dX0_manyOf_5 : decode cX0_manyOf 5 = .ok (.aload_n 2, 1) := dk_44 (dk_at dksX0_manyOf_0 5 rfl rfl)
theorem dX0_manyOf_6 : decode cX0_manyOf 6 = .ok (.ifnull 12, 3) := dk_198 0 12 (dk_at dksX0_manyOf_0 6 rfl rfl)
theorem dX0_manyOf_9 : decode cX0_manyOf 9 = .ok (.aload_n 2, 1) := dk_44 (dk_at dksX0_manyOf_0 9 rfl rfl)
theorem dX0_manyOf_10 : decode cX0_manyOf 10 = .ok (.getfield 262, 3) := dk_180 1 6 (dk_at dksX0_manyOf_0 10 rfl rfl)
theorem dX0_manyOf_13 : decode cX0_manyOf 13 = .ok (.iload_n 1, 1) := dk_27 (dk_at dksX0_manyOf_0 13 rfl rfl)
theorem dX0_manyOf_14 : decode cX0_manyOf 14 = .ok (.iaload, 1) := dk_46 (dk_at dksX0_manyOf_0 14 rfl rfl)
theorem dX0_manyOf_15 : decode cX0_manyOf 15 = .ok (.ifCond .ne 7, 3) := dk_154 0 7 (dk_at dksX0_manyOf_0 15 rfl rfl)
theorem dX0_manyOf_18 : decode cX0_manyOf 18 = .ok (.iconst 1, 1) := dk_4 (dk_at dksX0_manyOf_0 18 rfl rfl)
theorem dX0_manyOf_19 : decode cX0_manyOf 19 = .ok (.goto 9, 3) := dk_167 0 9 (dk_at dksX0_manyOf_0 19 rfl rfl)
theorem dX0_manyOf_22 : decode cX0_manyOf 22 = .ok (.aload_n 2, 1) := dk_44 (dk_at dksX0_manyOf_0 22 rfl rfl)
theorem dX0_manyOf_23 : decode cX0_manyOf 23 = .ok (.getfield 262, 3) := dk_180 1 6 (dk_at dksX0_manyOf_1 0 rfl rfl)
theorem dX0_manyOf_26 : decode cX0_manyOf 26 = .ok (.iload_n 1, 1) := dk_27 (dk_at dksX0_manyOf_1 3 rfl rfl)
theorem dX0_manyOf_27 : decode cX0_manyOf 27 = .ok (.iaload, 1) := dk_46 (dk_at dksX0_manyOf_1 4 rfl rfl)
theorem dX0_manyOf_28 : decode cX0_manyOf 28 = .ok (.ireturn, 1) := dk_172 (dk_at dksX0_manyOf_1 5 rfl rfl)
def dkwX0_rules_2_1 : List UInt8 := [180, 0, 12, 180, 0, 71, 16, 6, 27, 79, 42, 180, 0, 12, 180, 0, 71, 16, 7, 28, 79, 4, 172]
abbrev dktX0_rules_2_1 : List UInt8 := dkwX0_rules_2_1 ++ []
def dkwX0_rules_2_0 : List UInt8 := [27, 3, 16, 9, 184, 0, 74, 153, 0, 13, 28, 4, 16, 99, 184, 0, 74, 154, 0, 5, 3, 172, 42]
abbrev dktX0_rules_2_0 : List UInt8 := dkwX0_rules_2_0 ++ dktX0_rules_2_1
theorem dksX0_rules_2_0 : cX0_rules_2.data.toList.drop 0 = dktX0_rules_2_0 := by decide +kernel
theorem dksX0_rules_2_1 : cX0_rules_2.data.toList.drop 23 = dktX0_rules_2_1 := dk_seg dksX0_rules_2_0 23 rfl rfl
theorem dX0_rules_2_0 : decode cX0_rules_2 0 = .ok (.iload_n 1, 1) := dk_27 (dk_at dksX0_rules_2_0 0 rfl rfl)
theorem dX0_rules_2_1 : decode cX0_rules_2 1 = .ok (.iconst 0, 1) := dk_3 (dk_at dksX0_rules_2_0 1 rfl rfl)
theorem dX0_rules_2_2 : decode cX0_rules_2 2 = .ok (.bipush 9, 2) := dk_16 9 (dk_at dksX0_rules_2_0 2 rfl rfl)
theorem dX0_rules_2_4 : decode cX0_rules_2 4 = .ok (.invokestatic 74, 3) := dk_184 0 74 (dk_at dksX0_rules_2_0 4 rfl rfl)
theorem dX0_rules_2_7 : decode cX0_rules_2 7 = .ok (.ifCond .eq 13, 3) := dk_153 0 13 (dk_at dksX0_rules_2_0 7 rfl rfl)
theorem dX0_rules_2_10 : decode cX0_rules_2 10 = .ok (.iload_n 2, 1) := dk_28 (dk_at dksX0_rules_2_0 10 rfl rfl)
theorem dX0_rules_2_11 : decode cX0_rules_2 11 = .ok (.iconst 1, 1) := dk_4 (dk_at dksX0_rules_2_0 11 rfl rfl)
theorem dX0_rules_2_12 : decode cX0_rules_2 12 = .ok (.bipush 99, 2) := dk_16 99 (dk_at dksX0_rules_2_0 12 rfl rfl)
theorem dX0_rules_2_14 : decode cX0_rules_2 14 = .ok (.invokestatic 74, 3) := dk_184 0 74 (dk_at dksX0_rules_2_0 14 rfl rfl)
theorem dX0_rules_2_17 : decode cX0_rules_2 17 = .ok (.ifCond .ne 5, 3) := dk_154 0 5 (dk_at dksX0_rules_2_0 17 rfl rfl)
theorem dX0_rules_2_20 : decode cX0_rules_2 20 = .ok (.iconst 0, 1) := dk_3 (dk_at dksX0_rules_2_0 20 rfl rfl)
theorem dX0_rules_2_21 : decode cX0_rules_2 21 = .ok (.ireturn, 1) := dk_172 (dk_at dksX0_rules_2_0 21 rfl rfl)
theorem dX0_rules_2_22 : decode cX0_rules_2 22 = .ok (.aload_n 0, 1) := dk_42 (dk_at dksX0_rules_2_0 22 rfl rfl)
theorem dX0_rules_2_23 : decode cX0_rules_2 23 = .ok (.getfield 12, 3) := dk_180 0 12 (dk_at dksX0_rules_2_1 0 rfl rfl)
theorem dX0_rules_2_26 : decode cX0_rules_2 26 = .ok (.getfield 71, 3) := dk_180 0 71 (dk_at dksX0_rules_2_1 3 rfl rfl)
theorem dX0_rules_2_29 : decode cX0_rules_2 29 = .ok (.bipush 6, 2) := dk_16 6 (dk_at dksX0_rules_2_1 6 rfl rfl)
theorem dX0_rules_2_31 : decode cX0_rules_2 31 = .ok (.iload_n 1, 1) := dk_27 (dk_at dksX0_rules_2_1 8 rfl rfl)
theorem dX0_rules_2_32 : decode cX0_rules_2 32 = .ok (.iastore, 1) := dk_79 (dk_at dksX0_rules_2_1 9 rfl rfl)
theorem dX0_rules_2_33 : decode cX0_rules_2 33 = .ok (.aload_n 0, 1) := dk_42 (dk_at dksX0_rules_2_1 10 rfl rfl)
theorem dX0_rules_2_34 : decode cX0_rules_2 34 = .ok (.getfield 12, 3) := dk_180 0 12 (dk_at dksX0_rules_2_1 11 rfl rfl)
theorem dX0_rules_2_37 : decode cX0_rules_2 37 = .ok (.getfield 71, 3) := dk_180 0 71 (dk_at dksX0_rules_2_1 14 rfl rfl)
theorem dX0_rules_2_40 : decode cX0_rules_2 40 = .ok (.bipush 7, 2) := dk_16 7 (dk_at dksX0_rules_2_1 17 rfl rfl)
theorem dX0_rules_2_42 : decode cX0_rules_2 42 = .ok (.iload_n 2, 1) := dk_28 (dk_at dksX0_rules_2_1 19 rfl rfl)
theorem dX0_rules_2_43 : decode cX0_rules_2 43 = .ok (.iastore, 1) := dk_79 (dk_at dksX0_rules_2_1 20 rfl rfl)
theorem dX0_rules_2_44 : decode cX0_rules_2 44 = .ok (.iconst 1, 1) := dk_4 (dk_at dksX0_rules_2_1 21 rfl rfl)
theorem dX0_rules_2_45 : decode cX0_rules_2 45 = .ok (.ireturn, 1) := dk_172 (dk_at dksX0_rules_2_1 22 rfl rfl)
def dkwX0_seen_5 : List UInt8 := [180, 0, 12, 180, 0, 71, 8, 46, 4, 100, 172]
abbrev dktX0_seen_5 : List UInt8 := dkwX0_seen_5 ++ []
def dkwX0_seen_4 : List UInt8 := [180, 0, 71, 8, 46, 50, 184, 0, 242, 42, 180, 0, 12, 180, 0, 71, 8, 92, 46, 4, 96, 79, 42]
abbrev dktX0_seen_4 : List UInt8 := dkwX0_seen_4 ++ dktX0_seen_5
def dkwX0_seen_3 : List UInt8 := [5, 29, 79, 89, 6, 21, 4, 79, 58, 5, 25, 5, 42, 180, 0, 12, 180, 1, 33, 42, 180, 0, 12]
abbrev dktX0_seen_3 : List UInt8 := dkwX0_seen_3 ++ dktX0_seen_4
def dkwX0_seen_2 : List UInt8 := [180, 0, 71, 8, 46, 16, 12, 160, 0, 5, 2, 172, 7, 188, 10, 89, 3, 27, 79, 89, 4, 28, 79, 89]
abbrev dktX0_seen_2 : List UInt8 := dkwX0_seen_2 ++ dktX0_seen_3
def dkwX0_seen_1 : List UInt8 := [184, 0, 74, 153, 0, 29, 21, 4, 3, 17, 3, 231, 184, 0, 74, 153, 0, 17, 42, 180, 0, 12]
abbrev dktX0_seen_1 : List UInt8 := dkwX0_seen_1 ++ dktX0_seen_2
def dkwX0_seen_0 : List UInt8 := [42, 27, 182, 0, 93, 153, 0, 50, 28, 3, 16, 19, 184, 0, 74, 153, 0, 40, 29, 4, 17, 3, 231]
abbrev dktX0_seen_0 : List UInt8 := dkwX0_seen_0 ++ dktX0_seen_1
theorem dksX0_seen_0 : cX0_seen.data.toList.drop 0 = dktX0_seen_0 := by decide +kernel
theorem dksX0_seen_1 : cX0_seen.data.toList.drop 23 = dktX0_seen_1 := dk_seg dksX0_seen_0 23 rfl rfl
theorem dksX0_seen_2 : cX0_seen.data.toList.drop 45 = dktX0_seen_2 := dk_seg dksX0_seen_1 22 rfl rfl
theorem dksX0_seen_3 : cX0_seen.data.toList.drop 69 = dktX0_seen_3 := dk_seg dksX0_seen_2 24 rfl rfl
theorem dksX0_seen_4 : cX0_seen.data.toList.drop 92 = dktX0_seen_4 := dk_seg dksX0_seen_3 23 rfl rfl
theorem dksX0_seen_5 : cX0_seen.data.toList.drop 115 = dktX0_seen_5 := dk_seg dksX0_seen_4 23 rfl rfl
theorem dX0_seen_0 : decode cX0_seen 0 = .ok (.aload_n 0, 1) := dk_42 (dk_at dksX0_seen_0 0 rfl rfl)
theorem dX0_seen_1 : decode cX0_seen 1 = .ok (.iload_n 1, 1) := dk_27 (dk_at dksX0_seen_0 1 rfl rfl)
theorem dX0_seen_2 : decode cX0_seen 2 = .ok (.invokevirtual 93, 3) := dk_182 0 93 (dk_at dksX0_seen_0 2 rfl rfl)
theorem dX0_seen_5 : decode cX0_seen 5 = .ok (.ifCond .eq 50, 3) := dk_153 0 50 (dk_at dksX0_seen_0 5 rfl rfl)
theorem dX0_seen_8 : decode cX0_seen 8 = .ok (.iload_n 2, 1) := dk_28 (dk_at dksX0_seen_0 8 rfl rfl)
theorem dX0_seen_9 : decode cX0_seen 9 = .ok (.iconst 0, 1) := dk_3 (dk_at dksX0_seen_0 9 rfl rfl)
theorem dX0_seen_10 : decode cX0_seen 10 = .ok (.bipush 19, 2) := dk_16 19 (dk_at dksX0_seen_0 10 rfl rfl)
theorem dX0_seen_12 : decode cX0_seen 12 = .ok (.invokestatic 74, 3) := dk_184 0 74 (dk_at dksX0_seen_0 12 rfl rfl)
theorem dX0_seen_15 : decode cX0_seen 15 = .ok (.ifCond .eq 40, 3) := dk_153 0 40 (dk_at dksX0_seen_0 15 rfl rfl)
theorem dX0_seen_18 : decode cX0_seen 18 = .ok (.iload_n 3, 1) := dk_29 (dk_at dksX0_seen_0 18 rfl rfl)
theorem dX0_seen_19 : decode cX0_seen 19 = .ok (.iconst 1, 1) := dk_4 (dk_at dksX0_seen_0 19 rfl rfl)
theorem dX0_seen_20 : decode cX0_seen 20 = .ok (.sipush 999, 3) := dk_17 3 231 (dk_at dksX0_seen_0 20 rfl rfl)
theorem dX0_seen_23 : decode cX0_seen 23 = .ok (.invokestatic 74, 3) := dk_184 0 74 (dk_at dksX0_seen_1 0 rfl rfl)
theorem dX0_seen_26 : decode cX0_seen 26 = .ok (.ifCond .eq 29, 3) := dk_153 0 29 (dk_at dksX0_seen_1 3 rfl rfl)
theorem dX0_seen_29 : decode cX0_seen 29 = .ok (.iload 4, 2) := dk_21 4 (dk_at dksX0_seen_1 6 rfl rfl)
theorem dX0_seen_31 : decode cX0_seen 31 = .ok (.iconst 0, 1) := dk_3 (dk_at dksX0_seen_1 8 rfl rfl)
theorem dX0_seen_32 : decode cX0_seen 32 = .ok (.sipush 999, 3) := dk_17 3 231 (dk_at dksX0_seen_1 9 rfl rfl)
theorem dX0_seen_35 : decode cX0_seen 35 = .ok (.invokestatic 74, 3) := dk_184 0 74 (dk_at dksX0_seen_1 12 rfl rfl)
theorem dX0_seen_38 : decode cX0_seen 38 = .ok (.ifCond .eq 17, 3) := dk_153 0 17 (dk_at dksX0_seen_1 15 rfl rfl)
theorem dX0_seen_41 : decode cX0_seen 41 = .ok (.aload_n 0, 1) := dk_42 (dk_at dksX0_seen_1 18 rfl rfl)
theorem dX0_seen_42 : decode cX0_seen 42 = .ok (.getfield 12, 3) := dk_180 0 12 (dk_at dksX0_seen_1 19 rfl rfl)
theorem dX0_seen_45 : decode cX0_seen 45 = .ok (.getfield 71, 3) := dk_180 0 71 (dk_at dksX0_seen_2 0 rfl rfl)
theorem dX0_seen_48 : decode cX0_seen 48 = .ok (.iconst 5, 1) := dk_8 (dk_at dksX0_seen_2 3 rfl rfl)
theorem dX0_seen_49 : decode cX0_seen 49 = .ok (.iaload, 1) := dk_46 (dk_at dksX0_seen_2 4 rfl rfl)
theorem dX0_seen_50 : decode cX0_seen 50 = .ok (.bipush 12, 2) := dk_16 12 (dk_at dksX0_seen_2 5 rfl rfl)
theorem dX0_seen_52 : decode cX0_seen 52 = .ok (.if_icmp .ne 5, 3) := dk_160 0 5 (dk_at dksX0_seen_2 7 rfl rfl)
theorem dX0_seen_55 : decode cX0_seen 55 = .ok (.iconst (-1), 1) := dk_2 (dk_at dksX0_seen_2 10 rfl rfl)
theorem dX0_seen_56 : decode cX0_seen 56 = .ok (.ireturn, 1) := dk_172 (dk_at dksX0_seen_2 11 rfl rfl)
theorem dX0_seen_57 : decode cX0_seen 57 = .ok (.iconst 4, 1) := dk_7 (dk_at dksX0_seen_2 12 rfl rfl)
theorem dX0_seen_58 : decode cX0_seen 58 = .ok (.newarray .int, 2) := dk_188_10 (dk_at dksX0_seen_2 13 rfl rfl)
theorem dX0_seen_60 : decode cX0_seen 60 = .ok (.dup, 1) := dk_89 (dk_at dksX0_seen_2 15 rfl rfl)
theorem dX0_seen_61 : decode cX0_seen 61 = .ok (.iconst 0, 1) := dk_3 (dk_at dksX0_seen_2 16 rfl rfl)
theorem dX0_seen_62 : decode cX0_seen 62 = .ok (.iload_n 1, 1) := dk_27 (dk_at dksX0_seen_2 17 rfl rfl)
theorem dX0_seen_63 : decode cX0_seen 63 = .ok (.iastore, 1) := dk_79 (dk_at dksX0_seen_2 18 rfl rfl)
theorem dX0_seen_64 : decode cX0_seen 64 = .ok (.dup, 1) := dk_89 (dk_at dksX0_seen_2 19 rfl rfl)
theorem dX0_seen_65 : decode cX0_seen 65 = .ok (.iconst 1, 1) := dk_4 (dk_at dksX0_seen_2 20 rfl rfl)
theorem dX0_seen_66 : decode cX0_seen 66 = .ok (.iload_n 2, 1) := dk_28 (dk_at dksX0_seen_2 21 rfl rfl)
theorem dX0_seen_67 : decode cX0_seen 67 = .ok (.iastore, 1) := dk_79 (dk_at dksX0_seen_2 22 rfl rfl)
theorem dX0_seen_68 : decode cX0_seen 68 = .ok (.dup, 1) := dk_89 (dk_at dksX0_seen_2 23 rfl rfl)
theorem dX0_seen_69 : decode cX0_seen 69 = .ok (.iconst 2, 1) := dk_5 (dk_at dksX0_seen_3 0 rfl rfl)
theorem dX0_seen_70 : decode cX0_seen 70 = .ok (.iload_n 3, 1) := dk_29 (dk_at dksX0_seen_3 1 rfl rfl)
theorem dX0_seen_71 : decode cX0_seen 71 = .ok (.iastore, 1) := dk_79 (dk_at dksX0_seen_3 2 rfl rfl)
theorem dX0_seen_72 : decode cX0_seen 72 = .ok (.dup, 1) := dk_89 (dk_at dksX0_seen_3 3 rfl rfl)
theorem dX0_seen_73 : decode cX0_seen 73 = .ok (.iconst 3, 1) := dk_6 (dk_at dksX0_seen_3 4 rfl rfl)
theorem dX0_seen_74 : decode cX0_seen 74 = .ok (.iload 4, 2) := dk_21 4 (dk_at dksX0_seen_3 5 rfl rfl)
theorem dX0_seen_76 : decode cX0_seen 76 = .ok (.iastore, 1) := dk_79 (dk_at dksX0_seen_3 7 rfl rfl)
theorem dX0_seen_77 : decode cX0_seen 77 = .ok (.astore 5, 2) := dk_58 5 (dk_at dksX0_seen_3 8 rfl rfl)
theorem dX0_seen_79 : decode cX0_seen 79 = .ok (.aload 5, 2) := dk_25 5 (dk_at dksX0_seen_3 10 rfl rfl)
theorem dX0_seen_81 : decode cX0_seen 81 = .ok (.aload_n 0, 1) := dk_42 (dk_at dksX0_seen_3 12 rfl rfl)
theorem dX0_seen_82 : decode cX0_seen 82 = .ok (.getfield 12, 3) := dk_180 0 12 (dk_at dksX0_seen_3 13 rfl rfl)
theorem dX0_seen_85 : decode cX0_seen 85 = .ok (.getfield 289, 3) := dk_180 1 33 (dk_at dksX0_seen_3 16 rfl rfl)
theorem dX0_seen_88 : decode cX0_seen 88 = .ok (.aload_n 0, 1) := dk_42 (dk_at dksX0_seen_3 19 rfl rfl)
theorem dX0_seen_89 : decode cX0_seen 89 = .ok (.getfield 12, 3) := dk_180 0 12 (dk_at dksX0_seen_3 20 rfl rfl)
theorem dX0_seen_92 : decode cX0_seen 92 = .ok (.getfield 71, 3) := dk_180 0 71 (dk_at dksX0_seen_4 0 rfl rfl)
theorem dX0_seen_95 : decode cX0_seen 95 = .ok (.iconst 5, 1) := dk_8 (dk_at dksX0_seen_4 3 rfl rfl)
theorem dX0_seen_96 : decode cX0_seen 96 = .ok (.iaload, 1) := dk_46 (dk_at dksX0_seen_4 4 rfl rfl)
theorem dX0_seen_97 : decode cX0_seen 97 = .ok (.aaload, 1) := dk_50 (dk_at dksX0_seen_4 5 rfl rfl)
theorem dX0_seen_98 : decode cX0_seen 98 = .ok (.invokestatic 242, 3) := dk_184 0 242 (dk_at dksX0_seen_4 6 rfl rfl)
theorem dX0_seen_101 : decode cX0_seen 101 = .ok (.aload_n 0, 1) := dk_42 (dk_at dksX0_seen_4 9 rfl rfl)
theorem dX0_seen_102 : decode cX0_seen 102 = .ok (.getfield 12, 3) := dk_180 0 12 (dk_at dksX0_seen_4 10 rfl rfl)
theorem dX0_seen_105 : decode cX0_seen 105 = .ok (.getfield 71, 3) := dk_180 0 71 (dk_at dksX0_seen_4 13 rfl rfl)
theorem dX0_seen_108 : decode cX0_seen 108 = .ok (.iconst 5, 1) := dk_8 (dk_at dksX0_seen_4 16 rfl rfl)
theorem dX0_seen_109 : decode cX0_seen 109 = .ok (.dup2, 1) := dk_92 (dk_at dksX0_seen_4 17 rfl rfl)
theorem dX0_seen_110 : decode cX0_seen 110 = .ok (.iaload, 1) := dk_46 (dk_at dksX0_seen_4 18 rfl rfl)
theorem dX0_seen_111 : decode cX0_seen 111 = .ok (.iconst 1, 1) := dk_4 (dk_at dksX0_seen_4 19 rfl rfl)
theorem dX0_seen_112 : decode cX0_seen 112 = .ok (.iadd, 1) := dk_96 (dk_at dksX0_seen_4 20 rfl rfl)
theorem dX0_seen_113 : decode cX0_seen 113 = .ok (.iastore, 1) := dk_79 (dk_at dksX0_seen_4 21 rfl rfl)
theorem dX0_seen_114 : decode cX0_seen 114 = .ok (.aload_n 0, 1) := dk_42 (dk_at dksX0_seen_4 22 rfl rfl)
theorem dX0_seen_115 : decode cX0_seen 115 = .ok (.getfield 12, 3) := dk_180 0 12 (dk_at dksX0_seen_5 0 rfl rfl)
theorem dX0_seen_118 : decode cX0_seen 118 = .ok (.getfield 71, 3) := dk_180 0 71 (dk_at dksX0_seen_5 3 rfl rfl)
theorem dX0_seen_121 : decode cX0_seen 121 = .ok (.iconst 5, 1) := dk_8 (dk_at dksX0_seen_5 6 rfl rfl)
theorem dX0_seen_122 : decode cX0_seen 122 = .ok (.iaload, 1) := dk_46 (dk_at dksX0_seen_5 7 rfl rfl)
theorem dX0_seen_123 : decode cX0_seen 123 = .ok (.iconst 1, 1) := dk_4 (dk_at dksX0_seen_5 8 rfl rfl)
theorem dX0_seen_124 : decode cX0_seen 124 = .ok (.isub, 1) := dk_100 (dk_at dksX0_seen_5 9 rfl rfl)
theorem dX0_seen_125 : decode cX0_seen 125 = .ok (.ireturn, 1) := dk_172 (dk_at dksX0_seen_5 10 rfl rfl)
def dkwX0_forget_0 : List UInt8 := [42, 180, 0, 12, 180, 0, 71, 8, 46, 60, 42, 180, 0, 12, 180, 0, 71, 8, 3, 79, 27, 172]
abbrev dktX0_forget_0 : List UInt8 := dkwX0_forget_0 ++ []
theorem dksX0_forget_0 : cX0_forget.data.toList.drop 0 = dktX0_forget_0 := by decide +kernel
theorem dX0_forget_0 : decode cX0_forget 0 = .ok (.aload_n 0, 1) := dk_42 (dk_at dksX0_forget_0 0 rfl rfl)
theorem dX0_forget_1 : decode cX0_forget 1 = .ok (.getfield 12, 3) := dk_180 0 12 (dk_at dksX0_forget_0 1 rfl rfl)
theorem dX0_forget_4 : decode cX0_forget 4 = .ok (.getfield 71, 3) := dk_180 0 71 (dk_at dksX0_forget_0 4 rfl rfl)
theorem dX0_forget_7 : decode cX0_forget 7 = .ok (.iconst 5, 1) := dk_8 (dk_at dksX0_forget_0 7 rfl rfl)
theorem dX0_forget_8 : decode cX0_forget 8 = .ok (.iaload, 1) := dk_46 (dk_at dksX0_forget_0 8 rfl rfl)
theorem dX0_forget_9 : decode cX0_forget 9 = .ok (.istore_n 1, 1) := dk_60 (dk_at dksX0_forget_0 9 rfl rfl)
theorem dX0_forget_10 : decode cX0_forget 10 = .ok (.aload_n 0, 1) := dk_42 (dk_at dksX0_forget_0 10 rfl rfl)
theorem dX0_forget_11 : decode cX0_forget 11 = .ok (.getfield 12, 3) := dk_180 0 12 (dk_at dksX0_forget_0 11 rfl rfl)
theorem dX0_forget_14 : decode cX0_forget 14 = .ok (.getfield 71, 3) := dk_180 0 71 (dk_at dksX0_forget_0 14 rfl rfl)
theorem dX0_forget_17 : decode cX0_forget 17 = .ok (.iconst 5, 1) := dk_8 (dk_at dksX0_forget_0 17 rfl rfl)
theorem dX0_forget_18 : decode cX0_forget 18 = .ok (.iconst 0, 1) := dk_3 (dk_at dksX0_forget_0 18 rfl rfl)
theorem dX0_forget_19 : decode cX0_forget 19 = .ok (.iastore, 1) := dk_79 (dk_at dksX0_forget_0 19 rfl rfl)
theorem dX0_forget_20 : decode cX0_forget 20 = .ok (.iload_n 1, 1) := dk_27 (dk_at dksX0_forget_0 20 rfl rfl)
theorem dX0_forget_21 : decode cX0_forget 21 = .ok (.ireturn, 1) := dk_172 (dk_at dksX0_forget_0 21 rfl rfl)
def dkwX0_same_1 : List UInt8 := [153, 0, 7, 4, 167, 0, 4, 3, 172]
abbrev dktX0_same_1 : List UInt8 := dkwX0_same_1 ++ []
def dkwX0_same_0 : List UInt8 := [42, 27, 182, 1, 39, 153, 0, 24, 42, 28, 182, 1, 39, 153, 0, 16, 42, 27, 28, 182, 1, 42]
abbrev dktX0_same_0 : List UInt8 := dkwX0_same_0 ++ dktX0_same_1
theorem dksX0_same_0 : cX0_same.data.toList.drop 0 = dktX0_same_0 := by decide +kernel
theorem dksX0_same_1 : cX0_same.data.toList.drop 22 = dktX0_same_1 := dk_seg dksX0_same_0 22 rfl rfl
theorem dX0_same_0 : decode cX0_same 0 = .ok (.aload_n 0, 1) := dk_42 (dk_at dksX0_same_0 0 rfl rfl)
theorem dX0_same_1 : decode cX0_same 1 = .ok (.iload_n 1, 1) := dk_27 (dk_at dksX0_same_0 1 rfl rfl)
theorem dX0_same_2 : decode cX0_same 2 = .ok (.invokevirtual 295, 3) := dk_182 1 39 (dk_at dksX0_same_0 2 rfl rfl)
theorem dX0_same_5 : decode cX0_same 5 = .ok (.ifCond .eq 24, 3) := dk_153 0 24 (dk_at dksX0_same_0 5 rfl rfl)
theorem dX0_same_8 : decode cX0_same 8 = .ok (.aload_n 0, 1) := dk_42 (dk_at dksX0_same_0 8 rfl rfl)
theorem dX0_same_9 : decode cX0_same 9 = .ok (.iload_n 2, 1) := dk_28 (dk_at dksX0_same_0 9 rfl rfl)
theorem dX0_same_10 : decode cX0_same 10 = .ok (.invokevirtual 295, 3) := dk_182 1 39 (dk_at dksX0_same_0 10 rfl rfl)
theorem dX0_same_13 : decode cX0_same 13 = .ok (.ifCond .eq 16, 3) := dk_153 0 16 (dk_at dksX0_same_0 13 rfl rfl)
theorem dX0_same_16 : decode cX0_same 16 = .ok (.aload_n 0, 1) := dk_42 (dk_at dksX0_same_0 16 rfl rfl)
theorem dX0_same_17 : decode cX0_same 17 = .ok (.iload_n 1, 1) := dk_27 (dk_at dksX0_same_0 17 rfl rfl)
theorem dX0_same_18 : decode cX0_same 18 = .ok (.iload_n 2, 1) := dk_28 (dk_at dksX0_same_0 18 rfl rfl)
theorem dX0_same_19 : decode cX0_same 19 = .ok (.invokevirtual 298, 3) := dk_182 1 42 (dk_at dksX0_same_0 19 rfl rfl)
theorem dX0_same_22 : decode cX0_same 22 = .ok (.ifCond .eq 7, 3) := dk_153 0 7 (dk_at dksX0_same_1 0 rfl rfl)
theorem dX0_same_25 : decode cX0_same 25 = .ok (.iconst 1, 1) := dk_4 (dk_at dksX0_same_1 3 rfl rfl)
theorem dX0_same_26 : decode cX0_same 26 = .ok (.goto 4, 3) := dk_167 0 4 (dk_at dksX0_same_1 4 rfl rfl)
theorem dX0_same_29 : decode cX0_same 29 = .ok (.iconst 0, 1) := dk_3 (dk_at dksX0_same_1 7 rfl rfl)
theorem dX0_same_30 : decode cX0_same 30 = .ok (.ireturn, 1) := dk_172 (dk_at dksX0_same_1 8 rfl rfl)
def dkwX0_isSeen_0 : List UInt8 := [27, 3, 42, 180, 0, 12, 180, 0, 71, 8, 46, 4, 100, 184, 0, 74, 172]
abbrev dktX0_isSeen_0 : List UInt8 := dkwX0_isSeen_0 ++ []
theorem dksX0_isSeen_0 : cX0_isSeen.data.toList.drop 0 = dktX0_isSeen_0 := by decide +kernel
theorem dX0_isSeen_0 : decode cX0_isSeen 0 = .ok (.iload_n 1, 1) := dk_27 (dk_at dksX0_isSeen_0 0 rfl rfl)
theorem dX0_isSeen_1 : decode cX0_isSeen 1 = .ok (.iconst 0, 1) := dk_3 (dk_at dksX0_isSeen_0 1 rfl rfl)
theorem dX0_isSeen_2 : decode cX0_isSeen 2 = .ok (.aload_n 0, 1) := dk_42 (dk_at dksX0_isSeen_0 2 rfl rfl)
theorem dX0_isSeen_3 : decode cX0_isSeen 3 = .ok (.getfield 12, 3) := dk_180 0 12 (dk_at dksX0_isSeen_0 3 rfl rfl)
theorem dX0_isSeen_6 : decode cX0_isSeen 6 = .ok (.getfield 71, 3) := dk_180 0 71 (dk_at dksX0_isSeen_0 6 rfl rfl)
theorem dX0_isSeen_9 : decode cX0_isSeen 9 = .ok (.iconst 5, 1) := dk_8 (dk_at dksX0_isSeen_0 9 rfl rfl)
theorem dX0_isSeen_10 : decode cX0_isSeen 10 = .ok (.iaload, 1) := dk_46 (dk_at dksX0_isSeen_0 10 rfl rfl)
theorem dX0_isSeen_11 : decode cX0_isSeen 11 = .ok (.iconst 1, 1) := dk_4 (dk_at dksX0_isSeen_0 11 rfl rfl)
theorem dX0_isSeen_12 : decode cX0_isSeen 12 = .ok (.isub, 1) := dk_100 (dk_at dksX0_isSeen_0 12 rfl rfl)
theorem dX0_isSeen_13 : decode cX0_isSeen 13 = .ok (.invokestatic 74, 3) := dk_184 0 74 (dk_at dksX0_isSeen_0 13 rfl rfl)
theorem dX0_isSeen_16 : decode cX0_isSeen 16 = .ok (.ireturn, 1) := dk_172 (dk_at dksX0_isSeen_0 16 rfl rfl)
def dkwX0_isSame_4 : List UInt8 := [16, 7, 46, 108, 21, 5, 163, 0, 7, 4, 167, 0, 4, 3, 172]
abbrev dktX0_isSame_4 : List UInt8 := dkwX0_isSame_4 ++ []
def dkwX0_isSame_3 : List UInt8 := [184, 0, 74, 153, 0, 34, 42, 45, 3, 46, 25, 4, 3, 46, 182, 1, 36, 42, 180, 0, 12, 180, 0, 71]
abbrev dktX0_isSame_3 : List UInt8 := dkwX0_isSame_3 ++ dktX0_isSame_4
def dkwX0_isSame_2 : List UInt8 := [160, 0, 61, 21, 5, 158, 0, 56, 21, 6, 3, 42, 180, 0, 12, 180, 0, 71, 16, 6, 46, 21, 5, 104]
abbrev dktX0_isSame_2 : List UInt8 := dkwX0_isSame_2 ++ dktX0_isSame_3
def dkwX0_isSame_1 : List UInt8 := [46, 45, 6, 46, 100, 54, 5, 45, 5, 46, 25, 4, 5, 46, 100, 54, 6, 45, 4, 46, 25, 4, 4, 46]
abbrev dktX0_isSame_1 : List UInt8 := dkwX0_isSame_1 ++ dktX0_isSame_2
def dkwX0_isSame_0 : List UInt8 := [42, 180, 0, 12, 180, 1, 33, 27, 50, 78, 42, 180, 0, 12, 180, 1, 33, 28, 50, 58, 4, 25, 4, 6]
abbrev dktX0_isSame_0 : List UInt8 := dkwX0_isSame_0 ++ dktX0_isSame_1
theorem dksX0_isSame_0 : cX0_isSame.data.toList.drop 0 = dktX0_isSame_0 := by decide +kernel
theorem dksX0_isSame_1 : cX0_isSame.data.toList.drop 24 = dktX0_isSame_1 := dk_seg dksX0_isSame_0 24 rfl rfl
theorem dksX0_isSame_2 : cX0_isSame.data.toList.drop 48 = dktX0_isSame_2 := dk_seg dksX0_isSame_1 24 rfl rfl
theorem dksX0_isSame_3 : cX0_isSame.data.toList.drop 72 = dktX0_isSame_3 := dk_seg dksX0_isSame_2 24 rfl rfl
theorem dksX0_isSame_4 : cX0_isSame.data.toList.drop 96 = dktX0_isSame_4 := dk_seg dksX0_isSame_3 24 rfl rfl
theorem dX0_isSame_0 : decode cX0_isSame 0 = .ok (.aload_n 0, 1) := dk_42 (dk_at dksX0_isSame_0 0 rfl rfl)
theorem dX0_isSame_1 : decode cX0_isSame 1 = .ok (.getfield 12, 3) := dk_180 0 12 (dk_at dksX0_isSame_0 1 rfl rfl)
theorem dX0_isSame_4 : decode cX0_isSame 4 = .ok (.getfield 289, 3) := dk_180 1 33 (dk_at dksX0_isSame_0 4 rfl rfl)
theorem dX0_isSame_7 : decode cX0_isSame 7 = .ok (.iload_n 1, 1) := dk_27 (dk_at dksX0_isSame_0 7 rfl rfl)
theorem dX0_isSame_8 : decode cX0_isSame 8 = .ok (.aaload, 1) := dk_50 (dk_at dksX0_isSame_0 8 rfl rfl)
theorem dX0_isSame_9 : decode cX0_isSame 9 = .ok (.astore_n 3, 1) := dk_78 (dk_at dksX0_isSame_0 9 rfl rfl)
theorem dX0_isSame_10 : decode cX0_isSame 10 = .ok (.aload_n 0, 1) := dk_42 (dk_at dksX0_isSame_0 10 rfl rfl)
theorem dX0_isSame_11 : decode cX0_isSame 11 = .ok (.getfield 12, 3) := dk_180 0 12 (dk_at dksX0_isSame_0 11 rfl rfl)
theorem dX0_isSame_14 : decode cX0_isSame 14 = .ok (.getfield 289, 3) := dk_180 1 33 (dk_at dksX0_isSame_0 14 rfl rfl)
theorem dX0_isSame_17 : decode cX0_isSame 17 = .ok (.iload_n 2, 1) := dk_28 (dk_at dksX0_isSame_0 17 rfl rfl)
theorem dX0_isSame_18 : decode cX0_isSame 18 = .ok (.aaload, 1) := dk_50 (dk_at dksX0_isSame_0 18 rfl rfl)
theorem dX0_isSame_19 : decode cX0_isSame 19 = .ok (.astore 4, 2) := dk_58 4 (dk_at dksX0_isSame_0 19 rfl rfl)
theorem dX0_isSame_21 : decode cX0_isSame 21 = .ok (.aload 4, 2) := dk_25 4 (dk_at dksX0_isSame_0 21 rfl rfl)
theorem dX0_isSame_23 : decode cX0_isSame 23 = .ok (.iconst 3, 1) := dk_6 (dk_at dksX0_isSame_0 23 rfl rfl)
theorem dX0_isSame_24 : decode cX0_isSame 24 = .ok (.iaload, 1) := dk_46 (dk_at dksX0_isSame_1 0 rfl rfl)
theorem dX0_isSame_25 : decode cX0_isSame 25 = .ok (.aload_n 3, 1) := dk_45 (dk_at dksX0_isSame_1 1 rfl rfl)
theorem dX0_isSame_26 : decode cX0_isSame 26 = .ok (.iconst 3, 1) := dk_6 (dk_at dksX0_isSame_1 2 rfl rfl)
theorem dX0_isSame_27 : decode cX0_isSame 27 = .ok (.iaload, 1) := dk_46 (dk_at dksX0_isSame_1 3 rfl rfl)
theorem dX0_isSame_28 : decode cX0_isSame 28 = .ok (.isub, 1) := dk_100 (dk_at dksX0_isSame_1 4 rfl rfl)
theorem dX0_isSame_29 : decode cX0_isSame 29 = .ok (.istore 5, 2) := dk_54 5 (dk_at dksX0_isSame_1 5 rfl rfl)
theorem dX0_isSame_31 : decode cX0_isSame 31 = .ok (.aload_n 3, 1) := dk_45 (dk_at dksX0_isSame_1 7 rfl rfl)
theorem dX0_isSame_32 : decode cX0_isSame 32 = .ok (.iconst 2, 1) := dk_5 (dk_at dksX0_isSame_1 8 rfl rfl)
theorem dX0_isSame_33 : decode cX0_isSame 33 = .ok (.iaload, 1) := dk_46 (dk_at dksX0_isSame_1 9 rfl rfl)
theorem dX0_isSame_34 : decode cX0_isSame 34 = .ok (.aload 4, 2) := dk_25 4 (dk_at dksX0_isSame_1 10 rfl rfl)
theorem dX0_isSame_36 : decode cX0_isSame 36 = .ok (.iconst 2, 1) := dk_5 (dk_at dksX0_isSame_1 12 rfl rfl)
theorem dX0_isSame_37 : decode cX0_isSame 37 = .ok (.iaload, 1) := dk_46 (dk_at dksX0_isSame_1 13 rfl rfl)
theorem dX0_isSame_38 : decode cX0_isSame 38 = .ok (.isub, 1) := dk_100 (dk_at dksX0_isSame_1 14 rfl rfl)
theorem dX0_isSame_39 : decode cX0_isSame 39 = .ok (.istore 6, 2) := dk_54 6 (dk_at dksX0_isSame_1 15 rfl rfl)
theorem dX0_isSame_41 : decode cX0_isSame 41 = .ok (.aload_n 3, 1) := dk_45 (dk_at dksX0_isSame_1 17 rfl rfl)
theorem dX0_isSame_42 : decode cX0_isSame 42 = .ok (.iconst 1, 1) := dk_4 (dk_at dksX0_isSame_1 18 rfl rfl)
theorem dX0_isSame_43 : decode cX0_isSame 43 = .ok (.iaload, 1) := dk_46 (dk_at dksX0_isSame_1 19 rfl rfl)
theorem dX0_isSame_44 : decode cX0_isSame 44 = .ok (.aload 4, 2) := dk_25 4 (dk_at dksX0_isSame_1 20 rfl rfl)
theorem dX0_isSame_46 : decode cX0_isSame 46 = .ok (.iconst 1, 1) := dk_4 (dk_at dksX0_isSame_1 22 rfl rfl)
theorem dX0_isSame_47 : decode cX0_isSame 47 = .ok (.iaload, 1) := dk_46 (dk_at dksX0_isSame_1 23 rfl rfl)
theorem dX0_isSame_48 : decode cX0_isSame 48 = .ok (.if_icmp .ne 61, 3) := dk_160 0 61 (dk_at dksX0_isSame_2 0 rfl rfl)
theorem dX0_isSame_51 : decode cX0_isSame 51 = .ok (.iload 5, 2) := dk_21 5 (dk_at dksX0_isSame_2 3 rfl rfl)
theorem dX0_isSame_53 : decode cX0_isSame 53 = .ok (.ifCond .le 56, 3) := dk_158 0 56 (dk_at dksX0_isSame_2 5 rfl rfl)
theorem dX0_isSame_56 : decode cX0_isSame 56 = .ok (.iload 6, 2) := dk_21 6 (dk_at dksX0_isSame_2 8 rfl rfl)
theorem dX0_isSame_58 : decode cX0_isSame 58 = .ok (.iconst 0, 1) := dk_3 (dk_at dksX0_isSame_2 10 rfl rfl)
theorem dX0_isSame_59 : decode cX0_isSame 59 = .ok (.aload_n 0, 1) := dk_42 (dk_at dksX0_isSame_2 11 rfl rfl)
theorem dX0_isSame_60 : decode cX0_isSame 60 = .ok (.getfield 12, 3) := dk_180 0 12 (dk_at dksX0_isSame_2 12 rfl rfl)
theorem dX0_isSame_63 : decode cX0_isSame 63 = .ok (.getfield 71, 3) := dk_180 0 71 (dk_at dksX0_isSame_2 15 rfl rfl)
theorem dX0_isSame_66 : decode cX0_isSame 66 = .ok (.bipush 6, 2) := dk_16 6 (dk_at dksX0_isSame_2 18 rfl rfl)
theorem dX0_isSame_68 : decode cX0_isSame 68 = .ok (.iaload, 1) := dk_46 (dk_at dksX0_isSame_2 20 rfl rfl)
theorem dX0_isSame_69 : decode cX0_isSame 69 = .ok (.iload 5, 2) := dk_21 5 (dk_at dksX0_isSame_2 21 rfl rfl)
theorem dX0_isSame_71 : decode cX0_isSame 71 = .ok (.imul, 1) := dk_104 (dk_at dksX0_isSame_2 23 rfl rfl)
theorem dX0_isSame_72 : decode cX0_isSame 72 = .ok (.invokestatic 74, 3) := dk_184 0 74 (dk_at dksX0_isSame_3 0 rfl rfl)
theorem dX0_isSame_75 : decode cX0_isSame 75 = .ok (.ifCond .eq 34, 3) := dk_153 0 34 (dk_at dksX0_isSame_3 3 rfl rfl)
theorem dX0_isSame_78 : decode cX0_isSame 78 = .ok (.aload_n 0, 1) := dk_42 (dk_at dksX0_isSame_3 6 rfl rfl)
theorem dX0_isSame_79 : decode cX0_isSame 79 = .ok (.aload_n 3, 1) := dk_45 (dk_at dksX0_isSame_3 7 rfl rfl)
theorem dX0_isSame_80 : decode cX0_isSame 80 = .ok (.iconst 0, 1) := dk_3 (dk_at dksX0_isSame_3 8 rfl rfl)
theorem dX0_isSame_81 : decode cX0_isSame 81 = .ok (.iaload, 1) := dk_46 (dk_at dksX0_isSame_3 9 rfl rfl)
theorem dX0_isSame_82 : decode cX0_isSame 82 = .ok (.aload 4, 2) := dk_25 4 (dk_at dksX0_isSame_3 10 rfl rfl)
theorem dX0_isSame_84 : decode cX0_isSame 84 = .ok (.iconst 0, 1) := dk_3 (dk_at dksX0_isSame_3 12 rfl rfl)
theorem dX0_isSame_85 : decode cX0_isSame 85 = .ok (.iaload, 1) := dk_46 (dk_at dksX0_isSame_3 13 rfl rfl)
theorem dX0_isSame_86 : decode cX0_isSame 86 = .ok (.invokevirtual 292, 3) := dk_182 1 36 (dk_at dksX0_isSame_3 14 rfl rfl)
theorem dX0_isSame_89 : decode cX0_isSame 89 = .ok (.aload_n 0, 1) := dk_42 (dk_at dksX0_isSame_3 17 rfl rfl)
theorem dX0_isSame_90 : decode cX0_isSame 90 = .ok (.getfield 12, 3) := dk_180 0 12 (dk_at dksX0_isSame_3 18 rfl rfl)
theorem dX0_isSame_93 : decode cX0_isSame 93 = .ok (.getfield 71, 3) := dk_180 0 71 (dk_at dksX0_isSame_3 21 rfl rfl)
theorem dX0_isSame_96 : decode cX0_isSame 96 = .ok (.bipush 7, 2) := dk_16 7 (dk_at dksX0_isSame_4 0 rfl rfl)
theorem dX0_isSame_98 : decode cX0_isSame 98 = .ok (.iaload, 1) := dk_46 (dk_at dksX0_isSame_4 2 rfl rfl)
theorem dX0_isSame_99 : decode cX0_isSame 99 = .ok (.idiv, 1) := dk_108 (dk_at dksX0_isSame_4 3 rfl rfl)
theorem dX0_isSame_100 : decode cX0_isSame 100 = .ok (.iload 5, 2) := dk_21 5 (dk_at dksX0_isSame_4 4 rfl rfl)
theorem dX0_isSame_102 : decode cX0_isSame 102 = .ok (.if_icmp .gt 7, 3) := dk_163 0 7 (dk_at dksX0_isSame_4 6 rfl rfl)
theorem dX0_isSame_105 : decode cX0_isSame 105 = .ok (.iconst 1, 1) := dk_4 (dk_at dksX0_isSame_4 9 rfl rfl)
theorem dX0_isSame_106 : decode cX0_isSame 106 = .ok (.goto 4, 3) := dk_167 0 4 (dk_at dksX0_isSame_4 10 rfl rfl)
theorem dX0_isSame_109 : decode cX0_isSame 109 = .ok (.iconst 0, 1) := dk_3 (dk_at dksX0_isSame_4 13 rfl rfl)
theorem dX0_isSame_110 : decode cX0_isSame 110 = .ok (.ireturn, 1) := dk_172 (dk_at dksX0_isSame_4 14 rfl rfl)
def dkwX0_miles_1 : List UInt8 := [180, 0, 12, 180, 0, 90, 27, 46, 42, 180, 0, 12, 180, 0, 90, 28, 46, 100, 184, 0, 84, 96, 172]
abbrev dktX0_miles_1 : List UInt8 := dkwX0_miles_1 ++ []
def dkwX0_miles_0 : List UInt8 := [42, 180, 0, 12, 180, 0, 81, 27, 46, 42, 180, 0, 12, 180, 0, 81, 28, 46, 100, 184, 0, 84, 42]
abbrev dktX0_miles_0 : List UInt8 := dkwX0_miles_0 ++ dktX0_miles_1
theorem dksX0_miles_0 : cX0_miles.data.toList.drop 0 = dktX0_miles_0 := by decide +kernel
theorem dksX0_miles_1 : cX0_miles.data.toList.drop 23 = dktX0_miles_1 := dk_seg dksX0_miles_0 23 rfl rfl
theorem dX0_miles_0 : decode cX0_miles 0 = .ok (.aload_n 0, 1) := dk_42 (dk_at dksX0_miles_0 0 rfl rfl)
theorem dX0_miles_1 : decode cX0_miles 1 = .ok (.getfield 12, 3) := dk_180 0 12 (dk_at dksX0_miles_0 1 rfl rfl)
theorem dX0_miles_4 : decode cX0_miles 4 = .ok (.getfield 81, 3) := dk_180 0 81 (dk_at dksX0_miles_0 4 rfl rfl)
theorem dX0_miles_7 : decode cX0_miles 7 = .ok (.iload_n 1, 1) := dk_27 (dk_at dksX0_miles_0 7 rfl rfl)
theorem dX0_miles_8 : decode cX0_miles 8 = .ok (.iaload, 1) := dk_46 (dk_at dksX0_miles_0 8 rfl rfl)
theorem dX0_miles_9 : decode cX0_miles 9 = .ok (.aload_n 0, 1) := dk_42 (dk_at dksX0_miles_0 9 rfl rfl)
theorem dX0_miles_10 : decode cX0_miles 10 = .ok (.getfield 12, 3) := dk_180 0 12 (dk_at dksX0_miles_0 10 rfl rfl)
theorem dX0_miles_13 : decode cX0_miles 13 = .ok (.getfield 81, 3) := dk_180 0 81 (dk_at dksX0_miles_0 13 rfl rfl)
theorem dX0_miles_16 : decode cX0_miles 16 = .ok (.iload_n 2, 1) := dk_28 (dk_at dksX0_miles_0 16 rfl rfl)
theorem dX0_miles_17 : decode cX0_miles 17 = .ok (.iaload, 1) := dk_46 (dk_at dksX0_miles_0 17 rfl rfl)
theorem dX0_miles_18 : decode cX0_miles 18 = .ok (.isub, 1) := dk_100 (dk_at dksX0_miles_0 18 rfl rfl)
theorem dX0_miles_19 : decode cX0_miles 19 = .ok (.invokestatic 84, 3) := dk_184 0 84 (dk_at dksX0_miles_0 19 rfl rfl)
theorem dX0_miles_22 : decode cX0_miles 22 = .ok (.aload_n 0, 1) := dk_42 (dk_at dksX0_miles_0 22 rfl rfl)
theorem dX0_miles_23 : decode cX0_miles 23 = .ok (.getfield 12, 3) := dk_180 0 12 (dk_at dksX0_miles_1 0 rfl rfl)
theorem dX0_miles_26 : decode cX0_miles 26 = .ok (.getfield 90, 3) := dk_180 0 90 (dk_at dksX0_miles_1 3 rfl rfl)
theorem dX0_miles_29 : decode cX0_miles 29 = .ok (.iload_n 1, 1) := dk_27 (dk_at dksX0_miles_1 6 rfl rfl)
theorem dX0_miles_30 : decode cX0_miles 30 = .ok (.iaload, 1) := dk_46 (dk_at dksX0_miles_1 7 rfl rfl)
theorem dX0_miles_31 : decode cX0_miles 31 = .ok (.aload_n 0, 1) := dk_42 (dk_at dksX0_miles_1 8 rfl rfl)
theorem dX0_miles_32 : decode cX0_miles 32 = .ok (.getfield 12, 3) := dk_180 0 12 (dk_at dksX0_miles_1 9 rfl rfl)
theorem dX0_miles_35 : decode cX0_miles 35 = .ok (.getfield 90, 3) := dk_180 0 90 (dk_at dksX0_miles_1 12 rfl rfl)
theorem dX0_miles_38 : decode cX0_miles 38 = .ok (.iload_n 2, 1) := dk_28 (dk_at dksX0_miles_1 15 rfl rfl)
theorem dX0_miles_39 : decode cX0_miles 39 = .ok (.iaload, 1) := dk_46 (dk_at dksX0_miles_1 16 rfl rfl)
theorem dX0_miles_40 : decode cX0_miles 40 = .ok (.isub, 1) := dk_100 (dk_at dksX0_miles_1 17 rfl rfl)
theorem dX0_miles_41 : decode cX0_miles 41 = .ok (.invokestatic 84, 3) := dk_184 0 84 (dk_at dksX0_miles_1 18 rfl rfl)
theorem dX0_miles_44 : decode cX0_miles 44 = .ok (.iadd, 1) := dk_96 (dk_at dksX0_miles_1 21 rfl rfl)
theorem dX0_miles_45 : decode cX0_miles 45 = .ok (.ireturn, 1) := dk_172 (dk_at dksX0_miles_1 22 rfl rfl)
def dkwX0_best_2 : List UInt8 := [167, 0, 17, 17, 3, 232, 28, 104, 42, 180, 0, 50, 3, 50, 3, 46, 100, 172]
abbrev dktX0_best_2 : List UInt8 := dkwX0_best_2 ++ []
def dkwX0_best_1 : List UInt8 := [17, 3, 231, 96, 17, 3, 232, 108, 61, 27, 154, 0, 17, 42, 180, 0, 12, 180, 0, 71, 8, 46, 28, 100]
abbrev dktX0_best_1 : List UInt8 := dkwX0_best_1 ++ dktX0_best_2
def dkwX0_best_0 : List UInt8 := [27, 3, 4, 184, 0, 74, 154, 0, 5, 2, 172, 42, 182, 1, 55, 42, 180, 0, 50, 3, 50, 3, 46]
abbrev dktX0_best_0 : List UInt8 := dkwX0_best_0 ++ dktX0_best_1
theorem dksX0_best_0 : cX0_best.data.toList.drop 0 = dktX0_best_0 := by decide +kernel
theorem dksX0_best_1 : cX0_best.data.toList.drop 23 = dktX0_best_1 := dk_seg dksX0_best_0 23 rfl rfl
theorem dksX0_best_2 : cX0_best.data.toList.drop 47 = dktX0_best_2 := dk_seg dksX0_best_1 24 rfl rfl
theorem dX0_best_0 : decode cX0_best 0 = .ok (.iload_n 1, 1) := dk_27 (dk_at dksX0_best_0 0 rfl rfl)
theorem dX0_best_1 : decode cX0_best 1 = .ok (.iconst 0, 1) := dk_3 (dk_at dksX0_best_0 1 rfl rfl)
theorem dX0_best_2 : decode cX0_best 2 = .ok (.iconst 1, 1) := dk_4 (dk_at dksX0_best_0 2 rfl rfl)
theorem dX0_best_3 : decode cX0_best 3 = .ok (.invokestatic 74, 3) := dk_184 0 74 (dk_at dksX0_best_0 3 rfl rfl)
theorem dX0_best_6 : decode cX0_best 6 = .ok (.ifCond .ne 5, 3) := dk_154 0 5 (dk_at dksX0_best_0 6 rfl rfl)
theorem dX0_best_9 : decode cX0_best 9 = .ok (.iconst (-1), 1) := dk_2 (dk_at dksX0_best_0 9 rfl rfl)
theorem dX0_best_10 : decode cX0_best 10 = .ok (.ireturn, 1) := dk_172 (dk_at dksX0_best_0 10 rfl rfl)
theorem dX0_best_11 : decode cX0_best 11 = .ok (.aload_n 0, 1) := dk_42 (dk_at dksX0_best_0 11 rfl rfl)
theorem dX0_best_12 : decode cX0_best 12 = .ok (.invokevirtual 311, 3) := dk_182 1 55 (dk_at dksX0_best_0 12 rfl rfl)
theorem dX0_best_15 : decode cX0_best 15 = .ok (.aload_n 0, 1) := dk_42 (dk_at dksX0_best_0 15 rfl rfl)
theorem dX0_best_16 : decode cX0_best 16 = .ok (.getfield 50, 3) := dk_180 0 50 (dk_at dksX0_best_0 16 rfl rfl)
theorem dX0_best_19 : decode cX0_best 19 = .ok (.iconst 0, 1) := dk_3 (dk_at dksX0_best_0 19 rfl rfl)
theorem dX0_best_20 : decode cX0_best 20 = .ok (.aaload, 1) := dk_50 (dk_at dksX0_best_0 20 rfl rfl)
theorem dX0_best_21 : decode cX0_best 21 = .ok (.iconst 0, 1) := dk_3 (dk_at dksX0_best_0 21 rfl rfl)
theorem dX0_best_22 : decode cX0_best 22 = .ok (.iaload, 1) := dk_46 (dk_at dksX0_best_0 22 rfl rfl)
theorem dX0_best_23 : decode cX0_best 23 = .ok (.sipush 999, 3) := dk_17 3 231 (dk_at dksX0_best_1 0 rfl rfl)
theorem dX0_best_26 : decode cX0_best 26 = .ok (.iadd, 1) := dk_96 (dk_at dksX0_best_1 3 rfl rfl)
theorem dX0_best_27 : decode cX0_best 27 = .ok (.sipush 1000, 3) := dk_17 3 232 (dk_at dksX0_best_1 4 rfl rfl)
theorem dX0_best_30 : decode cX0_best 30 = .ok (.idiv, 1) := dk_108 (dk_at dksX0_best_1 7 rfl rfl)
theorem dX0_best_31 : decode cX0_best 31 = .ok (.istore_n 2, 1) := dk_61 (dk_at dksX0_best_1 8 rfl rfl)
theorem dX0_best_32 : decode cX0_best 32 = .ok (.iload_n 1, 1) := dk_27 (dk_at dksX0_best_1 9 rfl rfl)
theorem dX0_best_33 : decode cX0_best 33 = .ok (.ifCond .ne 17, 3) := dk_154 0 17 (dk_at dksX0_best_1 10 rfl rfl)
theorem dX0_best_36 : decode cX0_best 36 = .ok (.aload_n 0, 1) := dk_42 (dk_at dksX0_best_1 13 rfl rfl)
theorem dX0_best_37 : decode cX0_best 37 = .ok (.getfield 12, 3) := dk_180 0 12 (dk_at dksX0_best_1 14 rfl rfl)
theorem dX0_best_40 : decode cX0_best 40 = .ok (.getfield 71, 3) := dk_180 0 71 (dk_at dksX0_best_1 17 rfl rfl)
theorem dX0_best_43 : decode cX0_best 43 = .ok (.iconst 5, 1) := dk_8 (dk_at dksX0_best_1 20 rfl rfl)
theorem dX0_best_44 : decode cX0_best 44 = .ok (.iaload, 1) := dk_46 (dk_at dksX0_best_1 21 rfl rfl)
theorem dX0_best_45 : decode cX0_best 45 = .ok (.iload_n 2, 1) := dk_28 (dk_at dksX0_best_1 22 rfl rfl)
theorem dX0_best_46 : decode cX0_best 46 = .ok (.isub, 1) := dk_100 (dk_at dksX0_best_1 23 rfl rfl)
theorem dX0_best_47 : decode cX0_best 47 = .ok (.goto 17, 3) := dk_167 0 17 (dk_at dksX0_best_2 0 rfl rfl)
theorem dX0_best_50 : decode cX0_best 50 = .ok (.sipush 1000, 3) := dk_17 3 232 (dk_at dksX0_best_2 3 rfl rfl)
theorem dX0_best_53 : decode cX0_best 53 = .ok (.iload_n 2, 1) := dk_28 (dk_at dksX0_best_2 6 rfl rfl)
theorem dX0_best_54 : decode cX0_best 54 = .ok (.imul, 1) := dk_104 (dk_at dksX0_best_2 7 rfl rfl)
theorem dX0_best_55 : decode cX0_best 55 = .ok (.aload_n 0, 1) := dk_42 (dk_at dksX0_best_2 8 rfl rfl)
theorem dX0_best_56 : decode cX0_best 56 = .ok (.getfield 50, 3) := dk_180 0 50 (dk_at dksX0_best_2 9 rfl rfl)
theorem dX0_best_59 : decode cX0_best 59 = .ok (.iconst 0, 1) := dk_3 (dk_at dksX0_best_2 12 rfl rfl)
theorem dX0_best_60 : decode cX0_best 60 = .ok (.aaload, 1) := dk_50 (dk_at dksX0_best_2 13 rfl rfl)
theorem dX0_best_61 : decode cX0_best 61 = .ok (.iconst 0, 1) := dk_3 (dk_at dksX0_best_2 14 rfl rfl)
theorem dX0_best_62 : decode cX0_best 62 = .ok (.iaload, 1) := dk_46 (dk_at dksX0_best_2 15 rfl rfl)
theorem dX0_best_63 : decode cX0_best 63 = .ok (.isub, 1) := dk_100 (dk_at dksX0_best_2 16 rfl rfl)
theorem dX0_best_64 : decode cX0_best 64 = .ok (.ireturn, 1) := dk_172 (dk_at dksX0_best_2 17 rfl rfl)
def dkwX0_laysHistories_8 : List UInt8 := [167, 255, 111, 132, 2, 255, 167, 255, 99, 177]
abbrev dktX0_laysHistories_8 : List UInt8 := dkwX0_laysHistories_8 ++ []
def dkwX0_laysHistories_7 : List UInt8 := [180, 0, 50, 28, 50, 29, 21, 4, 79, 42, 180, 0, 55, 28, 50, 29, 22, 5, 80, 132, 3, 1]
abbrev dktX0_laysHistories_7 : List UInt8 := dkwX0_laysHistories_7 ++ dktX0_laysHistories_8
def dkwX0_laysHistories_6 : List UInt8 := [167, 0, 4, 9, 97, 55, 5, 21, 4, 21, 8, 184, 0, 194, 54, 4, 132, 7, 1, 167, 255, 168, 42]
abbrev dktX0_laysHistories_6 : List UInt8 := dkwX0_laysHistories_6 ++ dktX0_laysHistories_7
def dkwX0_laysHistories_5 : List UInt8 := [21, 8, 21, 4, 161, 0, 21, 42, 180, 0, 55, 28, 4, 96, 50, 29, 4, 21, 7, 120, 128, 47]
abbrev dktX0_laysHistories_5 : List UInt8 := dkwX0_laysHistories_5 ++ dktX0_laysHistories_6
def dkwX0_laysHistories_4 : List UInt8 := [21, 7, 182, 1, 48, 54, 8, 21, 8, 21, 4, 164, 0, 7, 9, 167, 0, 5, 22, 5, 55, 5, 22, 5]
abbrev dktX0_laysHistories_4 : List UInt8 := dkwX0_laysHistories_4 ++ dktX0_laysHistories_5
def dkwX0_laysHistories_3 : List UInt8 := [21, 7, 27, 162, 0, 88, 42, 28, 29, 21, 7, 182, 1, 52, 154, 0, 6, 167, 0, 68, 42, 28, 29]
abbrev dktX0_laysHistories_3 : List UInt8 := dkwX0_laysHistories_3 ++ dktX0_laysHistories_4
def dkwX0_laysHistories_2 : List UInt8 := [28, 29, 2, 182, 1, 48, 54, 4, 42, 180, 0, 55, 28, 4, 96, 50, 29, 47, 55, 5, 3, 54, 7]
abbrev dktX0_laysHistories_2 : List UInt8 := dkwX0_laysHistories_2 ++ dktX0_laysHistories_3
def dkwX0_laysHistories_1 : List UInt8 := [27, 50, 10, 184, 1, 45, 27, 4, 100, 61, 28, 155, 0, 159, 3, 62, 29, 4, 27, 120, 162, 0, 144, 42]
abbrev dktX0_laysHistories_1 : List UInt8 := dkwX0_laysHistories_1 ++ dktX0_laysHistories_2
def dkwX0_laysHistories_0 : List UInt8 := [42, 180, 0, 12, 180, 0, 71, 8, 46, 60, 42, 180, 0, 50, 27, 50, 3, 184, 1, 24, 42, 180, 0, 55]
abbrev dktX0_laysHistories_0 : List UInt8 := dkwX0_laysHistories_0 ++ dktX0_laysHistories_1
theorem dksX0_laysHistories_0 : cX0_laysHistories.data.toList.drop 0 = dktX0_laysHistories_0 := by decide +kernel
theorem dksX0_laysHistories_1 : cX0_laysHistories.data.toList.drop 24 = dktX0_laysHistories_1 := dk_seg dksX0_laysHistories_0 24 rfl rfl
theorem dksX0_laysHistories_2 : cX0_laysHistories.data.toList.drop 48 = dktX0_laysHistories_2 := dk_seg dksX0_laysHistories_1 24 rfl rfl
theorem dksX0_laysHistories_3 : cX0_laysHistories.data.toList.drop 71 = dktX0_laysHistories_3 := dk_seg dksX0_laysHistories_2 23 rfl rfl
theorem dksX0_laysHistories_4 : cX0_laysHistories.data.toList.drop 94 = dktX0_laysHistories_4 := dk_seg dksX0_laysHistories_3 23 rfl rfl
theorem dksX0_laysHistories_5 : cX0_laysHistories.data.toList.drop 118 = dktX0_laysHistories_5 := dk_seg dksX0_laysHistories_4 24 rfl rfl
theorem dksX0_laysHistories_6 : cX0_laysHistories.data.toList.drop 140 = dktX0_laysHistories_6 := dk_seg dksX0_laysHistories_5 22 rfl rfl
theorem dksX0_laysHistories_7 : cX0_laysHistories.data.toList.drop 163 = dktX0_laysHistories_7 := dk_seg dksX0_laysHistories_6 23 rfl rfl
theorem dksX0_laysHistories_8 : cX0_laysHistories.data.toList.drop 185 = dktX0_laysHistories_8 := dk_seg dksX0_laysHistories_7 22 rfl rfl
theorem dX0_laysHistories_0 : decode cX0_laysHistories 0 = .ok (.aload_n 0, 1) := dk_42 (dk_at dksX0_laysHistories_0 0 rfl rfl)
theorem dX0_laysHistories_1 : decode cX0_laysHistories 1 = .ok (.getfield 12, 3) := dk_180 0 12 (dk_at dksX0_laysHistories_0 1 rfl rfl)
theorem dX0_laysHistories_4 : decode cX0_laysHistories 4 = .ok (.getfield 71, 3) := dk_180 0 71 (dk_at dksX0_laysHistories_0 4 rfl rfl)
theorem dX0_laysHistories_7 : decode cX0_laysHistories 7 = .ok (.iconst 5, 1) := dk_8 (dk_at dksX0_laysHistories_0 7 rfl rfl)
theorem dX0_laysHistories_8 : decode cX0_laysHistories 8 = .ok (.iaload, 1) := dk_46 (dk_at dksX0_laysHistories_0 8 rfl rfl)
theorem dX0_laysHistories_9 : decode cX0_laysHistories 9 = .ok (.istore_n 1, 1) := dk_60 (dk_at dksX0_laysHistories_0 9 rfl rfl)
theorem dX0_laysHistories_10 : decode cX0_laysHistories 10 = .ok (.aload_n 0, 1) := dk_42 (dk_at dksX0_laysHistories_0 10 rfl rfl)
theorem dX0_laysHistories_11 : decode cX0_laysHistories 11 = .ok (.getfield 50, 3) := dk_180 0 50 (dk_at dksX0_laysHistories_0 11 rfl rfl)
theorem dX0_laysHistories_14 : decode cX0_laysHistories 14 = .ok (.iload_n 1, 1) := dk_27 (dk_at dksX0_laysHistories_0 14 rfl rfl)
theorem dX0_laysHistories_15 : decode cX0_laysHistories 15 = .ok (.aaload, 1) := dk_50 (dk_at dksX0_laysHistories_0 15 rfl rfl)
theorem dX0_laysHistories_16 : decode cX0_laysHistories 16 = .ok (.iconst 0, 1) := dk_3 (dk_at dksX0_laysHistories_0 16 rfl rfl)
theorem dX0_laysHistories_17 : decode cX0_laysHistories 17 = .ok (.invokestatic 280, 3) := dk_184 1 24 (dk_at dksX0_laysHistories_0 17 rfl rfl)
theorem dX0_laysHistories_20 : decode cX0_laysHistories 20 = .ok (.aload_n 0, 1) := dk_42 (dk_at dksX0_laysHistories_0 20 rfl rfl)
theorem dX0_laysHistories_21 : decode cX0_laysHistories 21 = .ok (.getfield 55, 3) := dk_180 0 55 (dk_at dksX0_laysHistories_0 21 rfl rfl)
theorem dX0_laysHistories_24 : decode cX0_laysHistories 24 = .ok (.iload_n 1, 1) := dk_27 (dk_at dksX0_laysHistories_1 0 rfl rfl)
theorem dX0_laysHistories_25 : decode cX0_laysHistories 25 = .ok (.aaload, 1) := dk_50 (dk_at dksX0_laysHistories_1 1 rfl rfl)
theorem dX0_laysHistories_26 : decode cX0_laysHistories 26 = .ok (.lconst 1, 1) := dk_10 (dk_at dksX0_laysHistories_1 2 rfl rfl)
theorem dX0_laysHistories_27 : decode cX0_laysHistories 27 = .ok (.invokestatic 301, 3) := dk_184 1 45 (dk_at dksX0_laysHistories_1 3 rfl rfl)
theorem dX0_laysHistories_30 : decode cX0_laysHistories 30 = .ok (.iload_n 1, 1) := dk_27 (dk_at dksX0_laysHistories_1 6 rfl rfl)
theorem dX0_laysHistories_31 : decode cX0_laysHistories 31 = .ok (.iconst 1, 1) := dk_4 (dk_at dksX0_laysHistories_1 7 rfl rfl)
theorem dX0_laysHistories_32 : decode cX0_laysHistories 32 = .ok (.isub, 1) := dk_100 (dk_at dksX0_laysHistories_1 8 rfl rfl)
theorem dX0_laysHistories_33 : decode cX0_laysHistories 33 = .ok (.istore_n 2, 1) := dk_61 (dk_at dksX0_laysHistories_1 9 rfl rfl)
theorem dX0_laysHistories_34 : decode cX0_laysHistories 34 = .ok (.iload_n 2, 1) := dk_28 (dk_at dksX0_laysHistories_1 10 rfl rfl)
theorem dX0_laysHistories_35 : decode cX0_laysHistories 35 = .ok (.ifCond .lt 159, 3) := dk_155 0 159 (dk_at dksX0_laysHistories_1 11 rfl rfl)
theorem dX0_laysHistories_38 : decode cX0_laysHistories 38 = .ok (.iconst 0, 1) := dk_3 (dk_at dksX0_laysHistories_1 14 rfl rfl)
theorem dX0_laysHistories_39 : decode cX0_laysHistories 39 = .ok (.istore_n 3, 1) := dk_62 (dk_at dksX0_laysHistories_1 15 rfl rfl)
theorem dX0_laysHistories_40 : decode cX0_laysHistories 40 = .ok (.iload_n 3, 1) := dk_29 (dk_at dksX0_laysHistories_1 16 rfl rfl)
theorem dX0_laysHistories_41 : decode cX0_laysHistories 41 = .ok (.iconst 1, 1) := dk_4 (dk_at dksX0_laysHistories_1 17 rfl rfl)
theorem dX0_laysHistories_42 : decode cX0_laysHistories 42 = .ok (.iload_n 1, 1) := dk_27 (dk_at dksX0_laysHistories_1 18 rfl rfl)
theorem dX0_laysHistories_43 : decode cX0_laysHistories 43 = .ok (.ishl, 1) := dk_120 (dk_at dksX0_laysHistories_1 19 rfl rfl)
theorem dX0_laysHistories_44 : decode cX0_laysHistories 44 = .ok (.if_icmp .ge 144, 3) := dk_162 0 144 (dk_at dksX0_laysHistories_1 20 rfl rfl)
theorem dX0_laysHistories_47 : decode cX0_laysHistories 47 = .ok (.aload_n 0, 1) := dk_42 (dk_at dksX0_laysHistories_1 23 rfl rfl)
theorem dX0_laysHistories_48 : decode cX0_laysHistories 48 = .ok (.iload_n 2, 1) := dk_28 (dk_at dksX0_laysHistories_2 0 rfl rfl)
theorem dX0_laysHistories_49 : decode cX0_laysHistories 49 = .ok (.iload_n 3, 1) := dk_29 (dk_at dksX0_laysHistories_2 1 rfl rfl)
theorem dX0_laysHistories_50 : decode cX0_laysHistories 50 = .ok (.iconst (-1), 1) := dk_2 (dk_at dksX0_laysHistories_2 2 rfl rfl)
theorem dX0_laysHistories_51 : decode cX0_laysHistories 51 = .ok (.invokevirtual 304, 3) := dk_182 1 48 (dk_at dksX0_laysHistories_2 3 rfl rfl)
theorem dX0_laysHistories_54 : decode cX0_laysHistories 54 = .ok (.istore 4, 2) := dk_54 4 (dk_at dksX0_laysHistories_2 6 rfl rfl)
theorem dX0_laysHistories_56 : decode cX0_laysHistories 56 = .ok (.aload_n 0, 1) := dk_42 (dk_at dksX0_laysHistories_2 8 rfl rfl)
theorem dX0_laysHistories_57 : decode cX0_laysHistories 57 = .ok (.getfield 55, 3) := dk_180 0 55 (dk_at dksX0_laysHistories_2 9 rfl rfl)
theorem dX0_laysHistories_60 : decode cX0_laysHistories 60 = .ok (.iload_n 2, 1) := dk_28 (dk_at dksX0_laysHistories_2 12 rfl rfl)
theorem dX0_laysHistories_61 : decode cX0_laysHistories 61 = .ok (.iconst 1, 1) := dk_4 (dk_at dksX0_laysHistories_2 13 rfl rfl)
theorem dX0_laysHistories_62 : decode cX0_laysHistories 62 = .ok (.iadd, 1) := dk_96 (dk_at dksX0_laysHistories_2 14 rfl rfl)
theorem dX0_laysHistories_63 : decode cX0_laysHistories 63 = .ok (.aaload, 1) := dk_50 (dk_at dksX0_laysHistories_2 15 rfl rfl)
theorem dX0_laysHistories_64 : decode cX0_laysHistories 64 = .ok (.iload_n 3, 1) := dk_29 (dk_at dksX0_laysHistories_2 16 rfl rfl)
theorem dX0_laysHistories_65 : decode cX0_laysHistories 65 = .ok (.laload, 1) := dk_47 (dk_at dksX0_laysHistories_2 17 rfl rfl)
theorem dX0_laysHistories_66 : decode cX0_laysHistories 66 = .ok (.lstore 5, 2) := dk_55 5 (dk_at dksX0_laysHistories_2 18 rfl rfl)
theorem dX0_laysHistories_68 : decode cX0_laysHistories 68 = .ok (.iconst 0, 1) := dk_3 (dk_at dksX0_laysHistories_2 20 rfl rfl)
theorem dX0_laysHistories_69 : decode cX0_laysHistories 69 = .ok (.istore 7, 2) := dk_54 7 (dk_at dksX0_laysHistories_2 21 rfl rfl)
theorem dX0_laysHistories_71 : decode cX0_laysHistories 71 = .ok (.iload 7, 2) := dk_21 7 (dk_at dksX0_laysHistories_3 0 rfl rfl)
theorem dX0_laysHistories_73 : decode cX0_laysHistories 73 = .ok (.iload_n 1, 1) := dk_27 (dk_at dksX0_laysHistories_3 2 rfl rfl)
theorem dX0_laysHistories_74 : decode cX0_laysHistories 74 = .ok (.if_icmp .ge 88, 3) := dk_162 0 88 (dk_at dksX0_laysHistories_3 3 rfl rfl)
theorem dX0_laysHistories_77 : decode cX0_laysHistories 77 = .ok (.aload_n 0, 1) := dk_42 (dk_at dksX0_laysHistories_3 6 rfl rfl)
theorem dX0_laysHistories_78 : decode cX0_laysHistories 78 = .ok (.iload_n 2, 1) := dk_28 (dk_at dksX0_laysHistories_3 7 rfl rfl)
theorem dX0_laysHistories_79 : decode cX0_laysHistories 79 = .ok (.iload_n 3, 1) := dk_29 (dk_at dksX0_laysHistories_3 8 rfl rfl)
theorem dX0_laysHistories_80 : decode cX0_laysHistories 80 = .ok (.iload 7, 2) := dk_21 7 (dk_at dksX0_laysHistories_3 9 rfl rfl)
theorem dX0_laysHistories_82 : decode cX0_laysHistories 82 = .ok (.invokevirtual 308, 3) := dk_182 1 52 (dk_at dksX0_laysHistories_3 11 rfl rfl)
theorem dX0_laysHistories_85 : decode cX0_laysHistories 85 = .ok (.ifCond .ne 6, 3) := dk_154 0 6 (dk_at dksX0_laysHistories_3 14 rfl rfl)
theorem dX0_laysHistories_88 : decode cX0_laysHistories 88 = .ok (.goto 68, 3) := dk_167 0 68 (dk_at dksX0_laysHistories_3 17 rfl rfl)
theorem dX0_laysHistories_91 : decode cX0_laysHistories 91 = .ok (.aload_n 0, 1) := dk_42 (dk_at dksX0_laysHistories_3 20 rfl rfl)
theorem dX0_laysHistories_92 : decode cX0_laysHistories 92 = .ok (.iload_n 2, 1) := dk_28 (dk_at dksX0_laysHistories_3 21 rfl rfl)
theorem dX0_laysHistories_93 : decode cX0_laysHistories 93 = .ok (.iload_n 3, 1) := dk_29 (dk_at dksX0_laysHistories_3 22 rfl rfl)
theorem dX0_laysHistories_94 : decode cX0_laysHistories 94 = .ok (.iload 7, 2) := dk_21 7 (dk_at dksX0_laysHistories_4 0 rfl rfl)
theorem dX0_laysHistories_96 : decode cX0_laysHistories 96 = .ok (.invokevirtual 304, 3) := dk_182 1 48 (dk_at dksX0_laysHistories_4 2 rfl rfl)
theorem dX0_laysHistories_99 : decode cX0_laysHistories 99 = .ok (.istore 8, 2) := dk_54 8 (dk_at dksX0_laysHistories_4 5 rfl rfl)
theorem dX0_laysHistories_101 : decode cX0_laysHistories 101 = .ok (.iload 8, 2) := dk_21 8 (dk_at dksX0_laysHistories_4 7 rfl rfl)
theorem dX0_laysHistories_103 : decode cX0_laysHistories 103 = .ok (.iload 4, 2) := dk_21 4 (dk_at dksX0_laysHistories_4 9 rfl rfl)
theorem dX0_laysHistories_105 : decode cX0_laysHistories 105 = .ok (.if_icmp .le 7, 3) := dk_164 0 7 (dk_at dksX0_laysHistories_4 11 rfl rfl)
theorem dX0_laysHistories_108 : decode cX0_laysHistories 108 = .ok (.lconst 0, 1) := dk_9 (dk_at dksX0_laysHistories_4 14 rfl rfl)
theorem dX0_laysHistories_109 : decode cX0_laysHistories 109 = .ok (.goto 5, 3) := dk_167 0 5 (dk_at dksX0_laysHistories_4 15 rfl rfl)
theorem dX0_laysHistories_112 : decode cX0_laysHistories 112 = .ok (.lload 5, 2) := dk_22 5 (dk_at dksX0_laysHistories_4 18 rfl rfl)
theorem dX0_laysHistories_114 : decode cX0_laysHistories 114 = .ok (.lstore 5, 2) := dk_55 5 (dk_at dksX0_laysHistories_4 20 rfl rfl)
theorem dX0_laysHistories_116 : decode cX0_laysHistories 116 = .ok (.lload 5, 2) := dk_22 5 (dk_at dksX0_laysHistories_4 22 rfl rfl)
theorem dX0_laysHistories_118 : decode cX0_laysHistories 118 = .ok (.iload 8, 2) := dk_21 8 (dk_at dksX0_laysHistories_5 0 rfl rfl)
theorem dX0_laysHistories_120 : decode cX0_laysHistories 120 = .ok (.iload 4, 2) := dk_21 4 (dk_at dksX0_laysHistories_5 2 rfl rfl)
theorem dX0_laysHistories_122 : decode cX0_laysHistories 122 = .ok (.if_icmp .lt 21, 3) := dk_161 0 21 (dk_at dksX0_laysHistories_5 4 rfl rfl)
theorem dX0_laysHistories_125 : decode cX0_laysHistories 125 = .ok (.aload_n 0, 1) := dk_42 (dk_at dksX0_laysHistories_5 7 rfl rfl)
theorem dX0_laysHistories_126 : decode cX0_laysHistories 126 = .ok (.getfield 55, 3) := dk_180 0 55 (dk_at dksX0_laysHistories_5 8 rfl rfl)
theorem dX0_laysHistories_129 : decode cX0_laysHistories 129 = .ok (.iload_n 2, 1) := dk_28 (dk_at dksX0_laysHistories_5 11 rfl rfl)
theorem dX0_laysHistories_130 : decode cX0_laysHistories 130 = .ok (.iconst 1, 1) := dk_4 (dk_at dksX0_laysHistories_5 12 rfl rfl)
theorem dX0_laysHistories_131 : decode cX0_laysHistories 131 = .ok (.iadd, 1) := dk_96 (dk_at dksX0_laysHistories_5 13 rfl rfl)
theorem dX0_laysHistories_132 : decode cX0_laysHistories 132 = .ok (.aaload, 1) := dk_50 (dk_at dksX0_laysHistories_5 14 rfl rfl)
theorem dX0_laysHistories_133 : decode cX0_laysHistories 133 = .ok (.iload_n 3, 1) := dk_29 (dk_at dksX0_laysHistories_5 15 rfl rfl)
theorem dX0_laysHistories_134 : decode cX0_laysHistories 134 = .ok (.iconst 1, 1) := dk_4 (dk_at dksX0_laysHistories_5 16 rfl rfl)
theorem dX0_laysHistories_135 : decode cX0_laysHistories 135 = .ok (.iload 7, 2) := dk_21 7 (dk_at dksX0_laysHistories_5 17 rfl rfl)
theorem dX0_laysHistories_137 : decode cX0_laysHistories 137 = .ok (.ishl, 1) := dk_120 (dk_at dksX0_laysHistories_5 19 rfl rfl)
theorem dX0_laysHistories_138 : decode cX0_laysHistories 138 = .ok (.ior, 1) := dk_128 (dk_at dksX0_laysHistories_5 20 rfl rfl)
theorem dX0_laysHistories_139 : decode cX0_laysHistories 139 = .ok (.laload, 1) := dk_47 (dk_at dksX0_laysHistories_5 21 rfl rfl)
theorem dX0_laysHistories_140 : decode cX0_laysHistories 140 = .ok (.goto 4, 3) := dk_167 0 4 (dk_at dksX0_laysHistories_6 0 rfl rfl)
theorem dX0_laysHistories_143 : decode cX0_laysHistories 143 = .ok (.lconst 0, 1) := dk_9 (dk_at dksX0_laysHistories_6 3 rfl rfl)
theorem dX0_laysHistories_144 : decode cX0_laysHistories 144 = .ok (.ladd, 1) := dk_97 (dk_at dksX0_laysHistories_6 4 rfl rfl)
theorem dX0_laysHistories_145 : decode cX0_laysHistories 145 = .ok (.lstore 5, 2) := dk_55 5 (dk_at dksX0_laysHistories_6 5 rfl rfl)
theorem dX0_laysHistories_147 : decode cX0_laysHistories 147 = .ok (.iload 4, 2) := dk_21 4 (dk_at dksX0_laysHistories_6 7 rfl rfl)
theorem dX0_laysHistories_149 : decode cX0_laysHistories 149 = .ok (.iload 8, 2) := dk_21 8 (dk_at dksX0_laysHistories_6 9 rfl rfl)
theorem dX0_laysHistories_151 : decode cX0_laysHistories 151 = .ok (.invokestatic 194, 3) := dk_184 0 194 (dk_at dksX0_laysHistories_6 11 rfl rfl)
theorem dX0_laysHistories_154 : decode cX0_laysHistories 154 = .ok (.istore 4, 2) := dk_54 4 (dk_at dksX0_laysHistories_6 14 rfl rfl)
theorem dX0_laysHistories_156 : decode cX0_laysHistories 156 = .ok (.iinc 7 1, 3) := dk_132 7 1 (dk_at dksX0_laysHistories_6 16 rfl rfl)
theorem dX0_laysHistories_159 : decode cX0_laysHistories 159 = .ok (.goto (-88), 3) := dk_167 255 168 (dk_at dksX0_laysHistories_6 19 rfl rfl)
theorem dX0_laysHistories_162 : decode cX0_laysHistories 162 = .ok (.aload_n 0, 1) := dk_42 (dk_at dksX0_laysHistories_6 22 rfl rfl)
theorem dX0_laysHistories_163 : decode cX0_laysHistories 163 = .ok (.getfield 50, 3) := dk_180 0 50 (dk_at dksX0_laysHistories_7 0 rfl rfl)
theorem dX0_laysHistories_166 : decode cX0_laysHistories 166 = .ok (.iload_n 2, 1) := dk_28 (dk_at dksX0_laysHistories_7 3 rfl rfl)
theorem dX0_laysHistories_167 : decode cX0_laysHistories 167 = .ok (.aaload, 1) := dk_50 (dk_at dksX0_laysHistories_7 4 rfl rfl)
theorem dX0_laysHistories_168 : decode cX0_laysHistories 168 = .ok (.iload_n 3, 1) := dk_29 (dk_at dksX0_laysHistories_7 5 rfl rfl)
theorem dX0_laysHistories_169 : decode cX0_laysHistories 169 = .ok (.iload 4, 2) := dk_21 4 (dk_at dksX0_laysHistories_7 6 rfl rfl)
theorem dX0_laysHistories_171 : decode cX0_laysHistories 171 = .ok (.iastore, 1) := dk_79 (dk_at dksX0_laysHistories_7 8 rfl rfl)
theorem dX0_laysHistories_172 : decode cX0_laysHistories 172 = .ok (.aload_n 0, 1) := dk_42 (dk_at dksX0_laysHistories_7 9 rfl rfl)
theorem dX0_laysHistories_173 : decode cX0_laysHistories 173 = .ok (.getfield 55, 3) := dk_180 0 55 (dk_at dksX0_laysHistories_7 10 rfl rfl)
theorem dX0_laysHistories_176 : decode cX0_laysHistories 176 = .ok (.iload_n 2, 1) := dk_28 (dk_at dksX0_laysHistories_7 13 rfl rfl)
theorem dX0_laysHistories_177 : decode cX0_laysHistories 177 = .ok (.aaload, 1) := dk_50 (dk_at dksX0_laysHistories_7 14 rfl rfl)
theorem dX0_laysHistories_178 : decode cX0_laysHistories 178 = .ok (.iload_n 3, 1) := dk_29 (dk_at dksX0_laysHistories_7 15 rfl rfl)
theorem dX0_laysHistories_179 : decode cX0_laysHistories 179 = .ok (.lload 5, 2) := dk_22 5 (dk_at dksX0_laysHistories_7 16 rfl rfl)
theorem dX0_laysHistories_181 : decode cX0_laysHistories 181 = .ok (.lastore, 1) := dk_80 (dk_at dksX0_laysHistories_7 18 rfl rfl)
theorem dX0_laysHistories_182 : decode cX0_laysHistories 182 = .ok (.iinc 3 1, 3) := dk_132 3 1 (dk_at dksX0_laysHistories_7 19 rfl rfl)
theorem dX0_laysHistories_185 : decode cX0_laysHistories 185 = .ok (.goto (-145), 3) := dk_167 255 111 (dk_at dksX0_laysHistories_8 0 rfl rfl)
theorem dX0_laysHistories_188 : decode cX0_laysHistories 188 = .ok (.iinc 2 (-1), 3) := dk_132 2 255 (dk_at dksX0_laysHistories_8 3 rfl rfl)
theorem dX0_laysHistories_191 : decode cX0_laysHistories 191 = .ok (.goto (-157), 3) := dk_167 255 99 (dk_at dksX0_laysHistories_8 6 rfl rfl)
theorem dX0_laysHistories_194 : decode cX0_laysHistories 194 = .ok (.return_, 1) := dk_177 (dk_at dksX0_laysHistories_8 9 rfl rfl)
def dkwX0_worthOf_2 : List UInt8 := [167, 0, 4, 4, 100, 42, 180, 0, 50, 27, 4, 96, 50, 28, 4, 29, 120, 128, 46, 96, 172]
abbrev dktX0_worthOf_2 : List UInt8 := dkwX0_worthOf_2 ++ []
def dkwX0_worthOf_1 : List UInt8 := [180, 1, 33, 29, 50, 3, 46, 42, 180, 0, 12, 180, 1, 33, 27, 50, 3, 46, 160, 0, 7, 3]
abbrev dktX0_worthOf_1 : List UInt8 := dkwX0_worthOf_1 ++ dktX0_worthOf_2
def dkwX0_worthOf_0 : List UInt8 := [29, 2, 160, 0, 14, 42, 180, 0, 50, 27, 4, 96, 50, 28, 46, 172, 17, 3, 232, 42, 180, 0, 12]
abbrev dktX0_worthOf_0 : List UInt8 := dkwX0_worthOf_0 ++ dktX0_worthOf_1
theorem dksX0_worthOf_0 : cX0_worthOf.data.toList.drop 0 = dktX0_worthOf_0 := by decide +kernel
theorem dksX0_worthOf_1 : cX0_worthOf.data.toList.drop 23 = dktX0_worthOf_1 := dk_seg dksX0_worthOf_0 23 rfl rfl
theorem dksX0_worthOf_2 : cX0_worthOf.data.toList.drop 45 = dktX0_worthOf_2 := dk_seg dksX0_worthOf_1 22 rfl rfl
theorem dX0_worthOf_0 : decode cX0_worthOf 0 = .ok (.iload_n 3, 1) := dk_29 (dk_at dksX0_worthOf_0 0 rfl rfl)
theorem dX0_worthOf_1 : decode cX0_worthOf 1 = .ok (.iconst (-1), 1) := dk_2 (dk_at dksX0_worthOf_0 1 rfl rfl)
theorem dX0_worthOf_2 : decode cX0_worthOf 2 = .ok (.if_icmp .ne 14, 3) := dk_160 0 14 (dk_at dksX0_worthOf_0 2 rfl rfl)
theorem dX0_worthOf_5 : decode cX0_worthOf 5 = .ok (.aload_n 0, 1) := dk_42 (dk_at dksX0_worthOf_0 5 rfl rfl)
theorem dX0_worthOf_6 : decode cX0_worthOf 6 = .ok (.getfield 50, 3) := dk_180 0 50 (dk_at dksX0_worthOf_0 6 rfl rfl)
theorem dX0_worthOf_9 : decode cX0_worthOf 9 = .ok (.iload_n 1, 1) := dk_27 (dk_at dksX0_worthOf_0 9 rfl rfl)
theorem dX0_worthOf_10 : decode cX0_worthOf 10 = .ok (.iconst 1, 1) := dk_4 (dk_at dksX0_worthOf_0 10 rfl rfl)
theorem dX0_worthOf_11 : decode cX0_worthOf 11 = .ok (.iadd, 1) := dk_96 (dk_at dksX0_worthOf_0 11 rfl rfl)
theorem dX0_worthOf_12 : decode cX0_worthOf 12 = .ok (.aaload, 1) := dk_50 (dk_at dksX0_worthOf_0 12 rfl rfl)
theorem dX0_worthOf_13 : decode cX0_worthOf 13 = .ok (.iload_n 2, 1) := dk_28 (dk_at dksX0_worthOf_0 13 rfl rfl)
theorem dX0_worthOf_14 : decode cX0_worthOf 14 = .ok (.iaload, 1) := dk_46 (dk_at dksX0_worthOf_0 14 rfl rfl)
theorem dX0_worthOf_15 : decode cX0_worthOf 15 = .ok (.ireturn, 1) := dk_172 (dk_at dksX0_worthOf_0 15 rfl rfl)
theorem dX0_worthOf_16 : decode cX0_worthOf 16 = .ok (.sipush 1000, 3) := dk_17 3 232 (dk_at dksX0_worthOf_0 16 rfl rfl)
theorem dX0_worthOf_19 : decode cX0_worthOf 19 = .ok (.aload_n 0, 1) := dk_42 (dk_at dksX0_worthOf_0 19 rfl rfl)
theorem dX0_worthOf_20 : decode cX0_worthOf 20 = .ok (.getfield 12, 3) := dk_180 0 12 (dk_at dksX0_worthOf_0 20 rfl rfl)
theorem dX0_worthOf_23 : decode cX0_worthOf 23 = .ok (.getfield 289, 3) := dk_180 1 33 (dk_at dksX0_worthOf_1 0 rfl rfl)
theorem dX0_worthOf_26 : decode cX0_worthOf 26 = .ok (.iload_n 3, 1) := dk_29 (dk_at dksX0_worthOf_1 3 rfl rfl)
theorem dX0_worthOf_27 : decode cX0_worthOf 27 = .ok (.aaload, 1) := dk_50 (dk_at dksX0_worthOf_1 4 rfl rfl)
theorem dX0_worthOf_28 : decode cX0_worthOf 28 = .ok (.iconst 0, 1) := dk_3 (dk_at dksX0_worthOf_1 5 rfl rfl)
theorem dX0_worthOf_29 : decode cX0_worthOf 29 = .ok (.iaload, 1) := dk_46 (dk_at dksX0_worthOf_1 6 rfl rfl)
theorem dX0_worthOf_30 : decode cX0_worthOf 30 = .ok (.aload_n 0, 1) := dk_42 (dk_at dksX0_worthOf_1 7 rfl rfl)
theorem dX0_worthOf_31 : decode cX0_worthOf 31 = .ok (.getfield 12, 3) := dk_180 0 12 (dk_at dksX0_worthOf_1 8 rfl rfl)
theorem dX0_worthOf_34 : decode cX0_worthOf 34 = .ok (.getfield 289, 3) := dk_180 1 33 (dk_at dksX0_worthOf_1 11 rfl rfl)
theorem dX0_worthOf_37 : decode cX0_worthOf 37 = .ok (.iload_n 1, 1) := dk_27 (dk_at dksX0_worthOf_1 14 rfl rfl)
theorem dX0_worthOf_38 : decode cX0_worthOf 38 = .ok (.aaload, 1) := dk_50 (dk_at dksX0_worthOf_1 15 rfl rfl)
theorem dX0_worthOf_39 : decode cX0_worthOf 39 = .ok (.iconst 0, 1) := dk_3 (dk_at dksX0_worthOf_1 16 rfl rfl)
theorem dX0_worthOf_40 : decode cX0_worthOf 40 = .ok (.iaload, 1) := dk_46 (dk_at dksX0_worthOf_1 17 rfl rfl)
theorem dX0_worthOf_41 : decode cX0_worthOf 41 = .ok (.if_icmp .ne 7, 3) := dk_160 0 7 (dk_at dksX0_worthOf_1 18 rfl rfl)
theorem dX0_worthOf_44 : decode cX0_worthOf 44 = .ok (.iconst 0, 1) := dk_3 (dk_at dksX0_worthOf_1 21 rfl rfl)
theorem dX0_worthOf_45 : decode cX0_worthOf 45 = .ok (.goto 4, 3) := dk_167 0 4 (dk_at dksX0_worthOf_2 0 rfl rfl)
theorem dX0_worthOf_48 : decode cX0_worthOf 48 = .ok (.iconst 1, 1) := dk_4 (dk_at dksX0_worthOf_2 3 rfl rfl)
theorem dX0_worthOf_49 : decode cX0_worthOf 49 = .ok (.isub, 1) := dk_100 (dk_at dksX0_worthOf_2 4 rfl rfl)
theorem dX0_worthOf_50 : decode cX0_worthOf 50 = .ok (.aload_n 0, 1) := dk_42 (dk_at dksX0_worthOf_2 5 rfl rfl)
theorem dX0_worthOf_51 : decode cX0_worthOf 51 = .ok (.getfield 50, 3) := dk_180 0 50 (dk_at dksX0_worthOf_2 6 rfl rfl)
theorem dX0_worthOf_54 : decode cX0_worthOf 54 = .ok (.iload_n 1, 1) := dk_27 (dk_at dksX0_worthOf_2 9 rfl rfl)
theorem dX0_worthOf_55 : decode cX0_worthOf 55 = .ok (.iconst 1, 1) := dk_4 (dk_at dksX0_worthOf_2 10 rfl rfl)
theorem dX0_worthOf_56 : decode cX0_worthOf 56 = .ok (.iadd, 1) := dk_96 (dk_at dksX0_worthOf_2 11 rfl rfl)
theorem dX0_worthOf_57 : decode cX0_worthOf 57 = .ok (.aaload, 1) := dk_50 (dk_at dksX0_worthOf_2 12 rfl rfl)
theorem dX0_worthOf_58 : decode cX0_worthOf 58 = .ok (.iload_n 2, 1) := dk_28 (dk_at dksX0_worthOf_2 13 rfl rfl)
theorem dX0_worthOf_59 : decode cX0_worthOf 59 = .ok (.iconst 1, 1) := dk_4 (dk_at dksX0_worthOf_2 14 rfl rfl)
theorem dX0_worthOf_60 : decode cX0_worthOf 60 = .ok (.iload_n 3, 1) := dk_29 (dk_at dksX0_worthOf_2 15 rfl rfl)
theorem dX0_worthOf_61 : decode cX0_worthOf 61 = .ok (.ishl, 1) := dk_120 (dk_at dksX0_worthOf_2 16 rfl rfl)
theorem dX0_worthOf_62 : decode cX0_worthOf 62 = .ok (.ior, 1) := dk_128 (dk_at dksX0_worthOf_2 17 rfl rfl)
theorem dX0_worthOf_63 : decode cX0_worthOf 63 = .ok (.iaload, 1) := dk_46 (dk_at dksX0_worthOf_2 18 rfl rfl)
theorem dX0_worthOf_64 : decode cX0_worthOf 64 = .ok (.iadd, 1) := dk_96 (dk_at dksX0_worthOf_2 19 rfl rfl)
theorem dX0_worthOf_65 : decode cX0_worthOf 65 = .ok (.ireturn, 1) := dk_172 (dk_at dksX0_worthOf_2 20 rfl rfl)
def dkwX0_may_1 : List UInt8 := [167, 0, 4, 3, 172]
abbrev dktX0_may_1 : List UInt8 := dkwX0_may_1 ++ []
def dkwX0_may_0 : List UInt8 := [29, 2, 159, 0, 20, 28, 29, 122, 4, 126, 154, 0, 16, 42, 29, 27, 182, 1, 42, 153, 0, 7, 4]
abbrev dktX0_may_0 : List UInt8 := dkwX0_may_0 ++ dktX0_may_1
theorem dksX0_may_0 : cX0_may.data.toList.drop 0 = dktX0_may_0 := by decide +kernel
theorem dksX0_may_1 : cX0_may.data.toList.drop 23 = dktX0_may_1 := dk_seg dksX0_may_0 23 rfl rfl
theorem dX0_may_0 : decode cX0_may 0 = .ok (.iload_n 3, 1) := dk_29 (dk_at dksX0_may_0 0 rfl rfl)
theorem dX0_may_1 : decode cX0_may 1 = .ok (.iconst (-1), 1) := dk_2 (dk_at dksX0_may_0 1 rfl rfl)
theorem dX0_may_2 : decode cX0_may 2 = .ok (.if_icmp .eq 20, 3) := dk_159 0 20 (dk_at dksX0_may_0 2 rfl rfl)
theorem dX0_may_5 : decode cX0_may 5 = .ok (.iload_n 2, 1) := dk_28 (dk_at dksX0_may_0 5 rfl rfl)
theorem dX0_may_6 : decode cX0_may 6 = .ok (.iload_n 3, 1) := dk_29 (dk_at dksX0_may_0 6 rfl rfl)
theorem dX0_may_7 : decode cX0_may 7 = .ok (.ishr, 1) := dk_122 (dk_at dksX0_may_0 7 rfl rfl)
theorem dX0_may_8 : decode cX0_may 8 = .ok (.iconst 1, 1) := dk_4 (dk_at dksX0_may_0 8 rfl rfl)
theorem dX0_may_9 : decode cX0_may 9 = .ok (.iand, 1) := dk_126 (dk_at dksX0_may_0 9 rfl rfl)
theorem dX0_may_10 : decode cX0_may 10 = .ok (.ifCond .ne 16, 3) := dk_154 0 16 (dk_at dksX0_may_0 10 rfl rfl)
theorem dX0_may_13 : decode cX0_may 13 = .ok (.aload_n 0, 1) := dk_42 (dk_at dksX0_may_0 13 rfl rfl)
theorem dX0_may_14 : decode cX0_may 14 = .ok (.iload_n 3, 1) := dk_29 (dk_at dksX0_may_0 14 rfl rfl)
theorem dX0_may_15 : decode cX0_may 15 = .ok (.iload_n 1, 1) := dk_27 (dk_at dksX0_may_0 15 rfl rfl)
theorem dX0_may_16 : decode cX0_may 16 = .ok (.invokevirtual 298, 3) := dk_182 1 42 (dk_at dksX0_may_0 16 rfl rfl)
theorem dX0_may_19 : decode cX0_may 19 = .ok (.ifCond .eq 7, 3) := dk_153 0 7 (dk_at dksX0_may_0 19 rfl rfl)
theorem dX0_may_22 : decode cX0_may 22 = .ok (.iconst 1, 1) := dk_4 (dk_at dksX0_may_0 22 rfl rfl)
theorem dX0_may_23 : decode cX0_may 23 = .ok (.goto 4, 3) := dk_167 0 4 (dk_at dksX0_may_1 0 rfl rfl)
theorem dX0_may_26 : decode cX0_may 26 = .ok (.iconst 0, 1) := dk_3 (dk_at dksX0_may_1 3 rfl rfl)
theorem dX0_may_27 : decode cX0_may 27 = .ok (.ireturn, 1) := dk_172 (dk_at dksX0_may_1 4 rfl rfl)
def dkwX0_histories_0 : List UInt8 := [42, 182, 1, 55, 42, 180, 0, 55, 3, 50, 3, 47, 173]
abbrev dktX0_histories_0 : List UInt8 := dkwX0_histories_0 ++ []
theorem dksX0_histories_0 : cX0_histories.data.toList.drop 0 = dktX0_histories_0 := by decide +kernel
theorem dX0_histories_0 : decode cX0_histories 0 = .ok (.aload_n 0, 1) := dk_42 (dk_at dksX0_histories_0 0 rfl rfl)
theorem dX0_histories_1 : decode cX0_histories 1 = .ok (.invokevirtual 311, 3) := dk_182 1 55 (dk_at dksX0_histories_0 1 rfl rfl)
theorem dX0_histories_4 : decode cX0_histories 4 = .ok (.aload_n 0, 1) := dk_42 (dk_at dksX0_histories_0 4 rfl rfl)
theorem dX0_histories_5 : decode cX0_histories 5 = .ok (.getfield 55, 3) := dk_180 0 55 (dk_at dksX0_histories_0 5 rfl rfl)
theorem dX0_histories_8 : decode cX0_histories 8 = .ok (.iconst 0, 1) := dk_3 (dk_at dksX0_histories_0 8 rfl rfl)
theorem dX0_histories_9 : decode cX0_histories 9 = .ok (.aaload, 1) := dk_50 (dk_at dksX0_histories_0 9 rfl rfl)
theorem dX0_histories_10 : decode cX0_histories 10 = .ok (.iconst 0, 1) := dk_3 (dk_at dksX0_histories_0 10 rfl rfl)
theorem dX0_histories_11 : decode cX0_histories 11 = .ok (.laload, 1) := dk_47 (dk_at dksX0_histories_0 11 rfl rfl)
theorem dX0_histories_12 : decode cX0_histories 12 = .ok (.lreturn, 1) := dk_173 (dk_at dksX0_histories_0 12 rfl rfl)
def dkwX0_led_3 : List UInt8 := [160, 0, 7, 3, 167, 0, 6, 4, 29, 120, 128, 61, 132, 4, 1, 167, 255, 193, 29, 172]
abbrev dktX0_led_3 : List UInt8 := dkwX0_led_3 ++ []
def dkwX0_led_2 : List UInt8 := [182, 1, 48, 42, 180, 0, 50, 21, 4, 50, 28, 46, 159, 0, 9, 132, 3, 1, 167, 255, 222, 28, 29, 2]
abbrev dktX0_led_2 : List UInt8 := dkwX0_led_2 ++ dktX0_led_3
def dkwX0_led_1 : List UInt8 := [27, 163, 0, 63, 2, 62, 42, 21, 4, 28, 29, 182, 1, 52, 153, 0, 23, 42, 21, 4, 28, 29]
abbrev dktX0_led_1 : List UInt8 := dkwX0_led_1 ++ dktX0_led_2
def dkwX0_led_0 : List UInt8 := [42, 27, 182, 1, 39, 154, 0, 6, 16, 254, 172, 42, 182, 1, 55, 3, 61, 2, 62, 3, 54, 4, 21, 4]
abbrev dktX0_led_0 : List UInt8 := dkwX0_led_0 ++ dktX0_led_1
theorem dksX0_led_0 : cX0_led.data.toList.drop 0 = dktX0_led_0 := by decide +kernel
theorem dksX0_led_1 : cX0_led.data.toList.drop 24 = dktX0_led_1 := dk_seg dksX0_led_0 24 rfl rfl
theorem dksX0_led_2 : cX0_led.data.toList.drop 46 = dktX0_led_2 := dk_seg dksX0_led_1 22 rfl rfl
theorem dksX0_led_3 : cX0_led.data.toList.drop 70 = dktX0_led_3 := dk_seg dksX0_led_2 24 rfl rfl
theorem dX0_led_0 : decode cX0_led 0 = .ok (.aload_n 0, 1) := dk_42 (dk_at dksX0_led_0 0 rfl rfl)
theorem dX0_led_1 : decode cX0_led 1 = .ok (.iload_n 1, 1) := dk_27 (dk_at dksX0_led_0 1 rfl rfl)
theorem dX0_led_2 : decode cX0_led 2 = .ok (.invokevirtual 295, 3) := dk_182 1 39 (dk_at dksX0_led_0 2 rfl rfl)
theorem dX0_led_5 : decode cX0_led 5 = .ok (.ifCond .ne 6, 3) := dk_154 0 6 (dk_at dksX0_led_0 5 rfl rfl)
theorem dX0_led_8 : decode cX0_led 8 = .ok (.bipush (-2), 2) := dk_16 254 (dk_at dksX0_led_0 8 rfl rfl)
theorem dX0_led_10 : decode cX0_led 10 = .ok (.ireturn, 1) := dk_172 (dk_at dksX0_led_0 10 rfl rfl)
theorem dX0_led_11 : decode cX0_led 11 = .ok (.aload_n 0, 1) := dk_42 (dk_at dksX0_led_0 11 rfl rfl)
theorem dX0_led_12 : decode cX0_led 12 = .ok (.invokevirtual 311, 3) := dk_182 1 55 (dk_at dksX0_led_0 12 rfl rfl)
theorem dX0_led_15 : decode cX0_led 15 = .ok (.iconst 0, 1) := dk_3 (dk_at dksX0_led_0 15 rfl rfl)
theorem dX0_led_16 : decode cX0_led 16 = .ok (.istore_n 2, 1) := dk_61 (dk_at dksX0_led_0 16 rfl rfl)
theorem dX0_led_17 : decode cX0_led 17 = .ok (.iconst (-1), 1) := dk_2 (dk_at dksX0_led_0 17 rfl rfl)
theorem dX0_led_18 : decode cX0_led 18 = .ok (.istore_n 3, 1) := dk_62 (dk_at dksX0_led_0 18 rfl rfl)
theorem dX0_led_19 : decode cX0_led 19 = .ok (.iconst 0, 1) := dk_3 (dk_at dksX0_led_0 19 rfl rfl)
theorem dX0_led_20 : decode cX0_led 20 = .ok (.istore 4, 2) := dk_54 4 (dk_at dksX0_led_0 20 rfl rfl)
theorem dX0_led_22 : decode cX0_led 22 = .ok (.iload 4, 2) := dk_21 4 (dk_at dksX0_led_0 22 rfl rfl)
theorem dX0_led_24 : decode cX0_led 24 = .ok (.iload_n 1, 1) := dk_27 (dk_at dksX0_led_1 0 rfl rfl)
theorem dX0_led_25 : decode cX0_led 25 = .ok (.if_icmp .gt 63, 3) := dk_163 0 63 (dk_at dksX0_led_1 1 rfl rfl)
theorem dX0_led_28 : decode cX0_led 28 = .ok (.iconst (-1), 1) := dk_2 (dk_at dksX0_led_1 4 rfl rfl)
theorem dX0_led_29 : decode cX0_led 29 = .ok (.istore_n 3, 1) := dk_62 (dk_at dksX0_led_1 5 rfl rfl)
theorem dX0_led_30 : decode cX0_led 30 = .ok (.aload_n 0, 1) := dk_42 (dk_at dksX0_led_1 6 rfl rfl)
theorem dX0_led_31 : decode cX0_led 31 = .ok (.iload 4, 2) := dk_21 4 (dk_at dksX0_led_1 7 rfl rfl)
theorem dX0_led_33 : decode cX0_led 33 = .ok (.iload_n 2, 1) := dk_28 (dk_at dksX0_led_1 9 rfl rfl)
theorem dX0_led_34 : decode cX0_led 34 = .ok (.iload_n 3, 1) := dk_29 (dk_at dksX0_led_1 10 rfl rfl)
theorem dX0_led_35 : decode cX0_led 35 = .ok (.invokevirtual 308, 3) := dk_182 1 52 (dk_at dksX0_led_1 11 rfl rfl)
theorem dX0_led_38 : decode cX0_led 38 = .ok (.ifCond .eq 23, 3) := dk_153 0 23 (dk_at dksX0_led_1 14 rfl rfl)
theorem dX0_led_41 : decode cX0_led 41 = .ok (.aload_n 0, 1) := dk_42 (dk_at dksX0_led_1 17 rfl rfl)
theorem dX0_led_42 : decode cX0_led 42 = .ok (.iload 4, 2) := dk_21 4 (dk_at dksX0_led_1 18 rfl rfl)
theorem dX0_led_44 : decode cX0_led 44 = .ok (.iload_n 2, 1) := dk_28 (dk_at dksX0_led_1 20 rfl rfl)
theorem dX0_led_45 : decode cX0_led 45 = .ok (.iload_n 3, 1) := dk_29 (dk_at dksX0_led_1 21 rfl rfl)
theorem dX0_led_46 : decode cX0_led 46 = .ok (.invokevirtual 304, 3) := dk_182 1 48 (dk_at dksX0_led_2 0 rfl rfl)
theorem dX0_led_49 : decode cX0_led 49 = .ok (.aload_n 0, 1) := dk_42 (dk_at dksX0_led_2 3 rfl rfl)
theorem dX0_led_50 : decode cX0_led 50 = .ok (.getfield 50, 3) := dk_180 0 50 (dk_at dksX0_led_2 4 rfl rfl)
theorem dX0_led_53 : decode cX0_led 53 = .ok (.iload 4, 2) := dk_21 4 (dk_at dksX0_led_2 7 rfl rfl)
theorem dX0_led_55 : decode cX0_led 55 = .ok (.aaload, 1) := dk_50 (dk_at dksX0_led_2 9 rfl rfl)
theorem dX0_led_56 : decode cX0_led 56 = .ok (.iload_n 2, 1) := dk_28 (dk_at dksX0_led_2 10 rfl rfl)
theorem dX0_led_57 : decode cX0_led 57 = .ok (.iaload, 1) := dk_46 (dk_at dksX0_led_2 11 rfl rfl)
theorem dX0_led_58 : decode cX0_led 58 = .ok (.if_icmp .eq 9, 3) := dk_159 0 9 (dk_at dksX0_led_2 12 rfl rfl)
theorem dX0_led_61 : decode cX0_led 61 = .ok (.iinc 3 1, 3) := dk_132 3 1 (dk_at dksX0_led_2 15 rfl rfl)
theorem dX0_led_64 : decode cX0_led 64 = .ok (.goto (-34), 3) := dk_167 255 222 (dk_at dksX0_led_2 18 rfl rfl)
theorem dX0_led_67 : decode cX0_led 67 = .ok (.iload_n 2, 1) := dk_28 (dk_at dksX0_led_2 21 rfl rfl)
theorem dX0_led_68 : decode cX0_led 68 = .ok (.iload_n 3, 1) := dk_29 (dk_at dksX0_led_2 22 rfl rfl)
theorem dX0_led_69 : decode cX0_led 69 = .ok (.iconst (-1), 1) := dk_2 (dk_at dksX0_led_2 23 rfl rfl)
theorem dX0_led_70 : decode cX0_led 70 = .ok (.if_icmp .ne 7, 3) := dk_160 0 7 (dk_at dksX0_led_3 0 rfl rfl)
theorem dX0_led_73 : decode cX0_led 73 = .ok (.iconst 0, 1) := dk_3 (dk_at dksX0_led_3 3 rfl rfl)
theorem dX0_led_74 : decode cX0_led 74 = .ok (.goto 6, 3) := dk_167 0 6 (dk_at dksX0_led_3 4 rfl rfl)
theorem dX0_led_77 : decode cX0_led 77 = .ok (.iconst 1, 1) := dk_4 (dk_at dksX0_led_3 7 rfl rfl)
theorem dX0_led_78 : decode cX0_led 78 = .ok (.iload_n 3, 1) := dk_29 (dk_at dksX0_led_3 8 rfl rfl)
theorem dX0_led_79 : decode cX0_led 79 = .ok (.ishl, 1) := dk_120 (dk_at dksX0_led_3 9 rfl rfl)
theorem dX0_led_80 : decode cX0_led 80 = .ok (.ior, 1) := dk_128 (dk_at dksX0_led_3 10 rfl rfl)
theorem dX0_led_81 : decode cX0_led 81 = .ok (.istore_n 2, 1) := dk_61 (dk_at dksX0_led_3 11 rfl rfl)
theorem dX0_led_82 : decode cX0_led 82 = .ok (.iinc 4 1, 3) := dk_132 4 1 (dk_at dksX0_led_3 12 rfl rfl)
theorem dX0_led_85 : decode cX0_led 85 = .ok (.goto (-63), 3) := dk_167 255 193 (dk_at dksX0_led_3 15 rfl rfl)
theorem dX0_led_88 : decode cX0_led 88 = .ok (.iload_n 3, 1) := dk_29 (dk_at dksX0_led_3 18 rfl rfl)
theorem dX0_led_89 : decode cX0_led 89 = .ok (.ireturn, 1) := dk_172 (dk_at dksX0_led_3 19 rfl rfl)
def dkwX0_chance_6 : List UInt8 := [22, 7, 22, 11, 109, 167, 0, 8, 22, 9, 22, 11, 109, 173]
abbrev dktX0_chance_6 : List UInt8 := dkwX0_chance_6 ++ []
def dkwX0_chance_5 : List UInt8 := [20, 1, 67, 27, 184, 1, 63, 55, 9, 22, 9, 22, 7, 184, 1, 58, 55, 11, 21, 4, 154, 0, 11]
abbrev dktX0_chance_5 : List UInt8 := dkwX0_chance_5 ++ dktX0_chance_6
def dkwX0_chance_4 : List UInt8 := [22, 5, 27, 21, 9, 100, 133, 105, 21, 9, 4, 96, 133, 109, 55, 5, 132, 9, 1, 167, 255, 196]
abbrev dktX0_chance_4 : List UInt8 := dkwX0_chance_4 ++ dktX0_chance_5
def dkwX0_chance_3 : List UInt8 := [21, 9, 184, 1, 63, 105, 20, 1, 67, 29, 133, 101, 27, 21, 9, 100, 184, 1, 63, 105, 97, 55, 7]
abbrev dktX0_chance_3 : List UInt8 := dkwX0_chance_3 ++ dktX0_chance_4
def dkwX0_chance_2 : List UInt8 := [55, 7, 3, 54, 9, 21, 9, 27, 163, 0, 60, 21, 9, 28, 161, 0, 32, 22, 7, 22, 5, 29, 133]
abbrev dktX0_chance_2 : List UInt8 := dkwX0_chance_2 ++ dktX0_chance_3
def dkwX0_chance_1 : List UInt8 := [184, 0, 74, 153, 0, 13, 21, 4, 3, 4, 184, 0, 74, 154, 0, 7, 20, 1, 61, 173, 10, 55, 5, 9]
abbrev dktX0_chance_1 : List UInt8 := dkwX0_chance_1 ++ dktX0_chance_2
def dkwX0_chance_0 : List UInt8 := [27, 3, 16, 20, 184, 0, 74, 153, 0, 32, 28, 3, 27, 184, 0, 74, 153, 0, 23, 29, 3, 16, 6]
abbrev dktX0_chance_0 : List UInt8 := dkwX0_chance_0 ++ dktX0_chance_1
theorem dksX0_chance_0 : cX0_chance.data.toList.drop 0 = dktX0_chance_0 := by decide +kernel
theorem dksX0_chance_1 : cX0_chance.data.toList.drop 23 = dktX0_chance_1 := dk_seg dksX0_chance_0 23 rfl rfl
theorem dksX0_chance_2 : cX0_chance.data.toList.drop 47 = dktX0_chance_2 := dk_seg dksX0_chance_1 24 rfl rfl
theorem dksX0_chance_3 : cX0_chance.data.toList.drop 70 = dktX0_chance_3 := dk_seg dksX0_chance_2 23 rfl rfl
theorem dksX0_chance_4 : cX0_chance.data.toList.drop 93 = dktX0_chance_4 := dk_seg dksX0_chance_3 23 rfl rfl
theorem dksX0_chance_5 : cX0_chance.data.toList.drop 115 = dktX0_chance_5 := dk_seg dksX0_chance_4 22 rfl rfl
theorem dksX0_chance_6 : cX0_chance.data.toList.drop 138 = dktX0_chance_6 := dk_seg dksX0_chance_5 23 rfl rfl
theorem dX0_chance_0 : decode cX0_chance 0 = .ok (.iload_n 1, 1) := dk_27 (dk_at dksX0_chance_0 0 rfl rfl)
theorem dX0_chance_1 : decode cX0_chance 1 = .ok (.iconst 0, 1) := dk_3 (dk_at dksX0_chance_0 1 rfl rfl)
theorem dX0_chance_2 : decode cX0_chance 2 = .ok (.bipush 20, 2) := dk_16 20 (dk_at dksX0_chance_0 2 rfl rfl)
theorem dX0_chance_4 : decode cX0_chance 4 = .ok (.invokestatic 74, 3) := dk_184 0 74 (dk_at dksX0_chance_0 4 rfl rfl)
theorem dX0_chance_7 : decode cX0_chance 7 = .ok (.ifCond .eq 32, 3) := dk_153 0 32 (dk_at dksX0_chance_0 7 rfl rfl)
theorem dX0_chance_10 : decode cX0_chance 10 = .ok (.iload_n 2, 1) := dk_28 (dk_at dksX0_chance_0 10 rfl rfl)
theorem dX0_chance_11 : decode cX0_chance 11 = .ok (.iconst 0, 1) := dk_3 (dk_at dksX0_chance_0 11 rfl rfl)
theorem dX0_chance_12 : decode cX0_chance 12 = .ok (.iload_n 1, 1) := dk_27 (dk_at dksX0_chance_0 12 rfl rfl)
theorem dX0_chance_13 : decode cX0_chance 13 = .ok (.invokestatic 74, 3) := dk_184 0 74 (dk_at dksX0_chance_0 13 rfl rfl)
theorem dX0_chance_16 : decode cX0_chance 16 = .ok (.ifCond .eq 23, 3) := dk_153 0 23 (dk_at dksX0_chance_0 16 rfl rfl)
theorem dX0_chance_19 : decode cX0_chance 19 = .ok (.iload_n 3, 1) := dk_29 (dk_at dksX0_chance_0 19 rfl rfl)
theorem dX0_chance_20 : decode cX0_chance 20 = .ok (.iconst 0, 1) := dk_3 (dk_at dksX0_chance_0 20 rfl rfl)
theorem dX0_chance_21 : decode cX0_chance 21 = .ok (.bipush 6, 2) := dk_16 6 (dk_at dksX0_chance_0 21 rfl rfl)
theorem dX0_chance_23 : decode cX0_chance 23 = .ok (.invokestatic 74, 3) := dk_184 0 74 (dk_at dksX0_chance_1 0 rfl rfl)
theorem dX0_chance_26 : decode cX0_chance 26 = .ok (.ifCond .eq 13, 3) := dk_153 0 13 (dk_at dksX0_chance_1 3 rfl rfl)
theorem dX0_chance_29 : decode cX0_chance 29 = .ok (.iload 4, 2) := dk_21 4 (dk_at dksX0_chance_1 6 rfl rfl)
theorem dX0_chance_31 : decode cX0_chance 31 = .ok (.iconst 0, 1) := dk_3 (dk_at dksX0_chance_1 8 rfl rfl)
theorem dX0_chance_32 : decode cX0_chance 32 = .ok (.iconst 1, 1) := dk_4 (dk_at dksX0_chance_1 9 rfl rfl)
theorem dX0_chance_33 : decode cX0_chance 33 = .ok (.invokestatic 74, 3) := dk_184 0 74 (dk_at dksX0_chance_1 10 rfl rfl)
theorem dX0_chance_36 : decode cX0_chance 36 = .ok (.ifCond .ne 7, 3) := dk_154 0 7 (dk_at dksX0_chance_1 13 rfl rfl)
theorem dX0_chance_39 : decode cX0_chance 39 = .ok (.ldc2_w 317, 3) := dk_20 1 61 (dk_at dksX0_chance_1 16 rfl rfl)
theorem dX0_chance_42 : decode cX0_chance 42 = .ok (.lreturn, 1) := dk_173 (dk_at dksX0_chance_1 19 rfl rfl)
theorem dX0_chance_43 : decode cX0_chance 43 = .ok (.lconst 1, 1) := dk_10 (dk_at dksX0_chance_1 20 rfl rfl)
theorem dX0_chance_44 : decode cX0_chance 44 = .ok (.lstore 5, 2) := dk_55 5 (dk_at dksX0_chance_1 21 rfl rfl)
theorem dX0_chance_46 : decode cX0_chance 46 = .ok (.lconst 0, 1) := dk_9 (dk_at dksX0_chance_1 23 rfl rfl)
theorem dX0_chance_47 : decode cX0_chance 47 = .ok (.lstore 7, 2) := dk_55 7 (dk_at dksX0_chance_2 0 rfl rfl)
theorem dX0_chance_49 : decode cX0_chance 49 = .ok (.iconst 0, 1) := dk_3 (dk_at dksX0_chance_2 2 rfl rfl)
theorem dX0_chance_50 : decode cX0_chance 50 = .ok (.istore 9, 2) := dk_54 9 (dk_at dksX0_chance_2 3 rfl rfl)
theorem dX0_chance_52 : decode cX0_chance 52 = .ok (.iload 9, 2) := dk_21 9 (dk_at dksX0_chance_2 5 rfl rfl)
theorem dX0_chance_54 : decode cX0_chance 54 = .ok (.iload_n 1, 1) := dk_27 (dk_at dksX0_chance_2 7 rfl rfl)
theorem dX0_chance_55 : decode cX0_chance 55 = .ok (.if_icmp .gt 60, 3) := dk_163 0 60 (dk_at dksX0_chance_2 8 rfl rfl)
theorem dX0_chance_58 : decode cX0_chance 58 = .ok (.iload 9, 2) := dk_21 9 (dk_at dksX0_chance_2 11 rfl rfl)
theorem dX0_chance_60 : decode cX0_chance 60 = .ok (.iload_n 2, 1) := dk_28 (dk_at dksX0_chance_2 13 rfl rfl)
theorem dX0_chance_61 : decode cX0_chance 61 = .ok (.if_icmp .lt 32, 3) := dk_161 0 32 (dk_at dksX0_chance_2 14 rfl rfl)
theorem dX0_chance_64 : decode cX0_chance 64 = .ok (.lload 7, 2) := dk_22 7 (dk_at dksX0_chance_2 17 rfl rfl)
theorem dX0_chance_66 : decode cX0_chance 66 = .ok (.lload 5, 2) := dk_22 5 (dk_at dksX0_chance_2 19 rfl rfl)
theorem dX0_chance_68 : decode cX0_chance 68 = .ok (.iload_n 3, 1) := dk_29 (dk_at dksX0_chance_2 21 rfl rfl)
theorem dX0_chance_69 : decode cX0_chance 69 = .ok (.i2l, 1) := dk_133 (dk_at dksX0_chance_2 22 rfl rfl)
theorem dX0_chance_70 : decode cX0_chance 70 = .ok (.iload 9, 2) := dk_21 9 (dk_at dksX0_chance_3 0 rfl rfl)
theorem dX0_chance_72 : decode cX0_chance 72 = .ok (.invokestatic 319, 3) := dk_184 1 63 (dk_at dksX0_chance_3 2 rfl rfl)
theorem dX0_chance_75 : decode cX0_chance 75 = .ok (.lmul, 1) := dk_105 (dk_at dksX0_chance_3 5 rfl rfl)
theorem dX0_chance_76 : decode cX0_chance 76 = .ok (.ldc2_w 323, 3) := dk_20 1 67 (dk_at dksX0_chance_3 6 rfl rfl)
theorem dX0_chance_79 : decode cX0_chance 79 = .ok (.iload_n 3, 1) := dk_29 (dk_at dksX0_chance_3 9 rfl rfl)
theorem dX0_chance_80 : decode cX0_chance 80 = .ok (.i2l, 1) := dk_133 (dk_at dksX0_chance_3 10 rfl rfl)
theorem dX0_chance_81 : decode cX0_chance 81 = .ok (.lsub, 1) := dk_101 (dk_at dksX0_chance_3 11 rfl rfl)
theorem dX0_chance_82 : decode cX0_chance 82 = .ok (.iload_n 1, 1) := dk_27 (dk_at dksX0_chance_3 12 rfl rfl)
theorem dX0_chance_83 : decode cX0_chance 83 = .ok (.iload 9, 2) := dk_21 9 (dk_at dksX0_chance_3 13 rfl rfl)
theorem dX0_chance_85 : decode cX0_chance 85 = .ok (.isub, 1) := dk_100 (dk_at dksX0_chance_3 15 rfl rfl)
theorem dX0_chance_86 : decode cX0_chance 86 = .ok (.invokestatic 319, 3) := dk_184 1 63 (dk_at dksX0_chance_3 16 rfl rfl)
theorem dX0_chance_89 : decode cX0_chance 89 = .ok (.lmul, 1) := dk_105 (dk_at dksX0_chance_3 19 rfl rfl)
theorem dX0_chance_90 : decode cX0_chance 90 = .ok (.ladd, 1) := dk_97 (dk_at dksX0_chance_3 20 rfl rfl)
theorem dX0_chance_91 : decode cX0_chance 91 = .ok (.lstore 7, 2) := dk_55 7 (dk_at dksX0_chance_3 21 rfl rfl)
theorem dX0_chance_93 : decode cX0_chance 93 = .ok (.lload 5, 2) := dk_22 5 (dk_at dksX0_chance_4 0 rfl rfl)
theorem dX0_chance_95 : decode cX0_chance 95 = .ok (.iload_n 1, 1) := dk_27 (dk_at dksX0_chance_4 2 rfl rfl)
theorem dX0_chance_96 : decode cX0_chance 96 = .ok (.iload 9, 2) := dk_21 9 (dk_at dksX0_chance_4 3 rfl rfl)
theorem dX0_chance_98 : decode cX0_chance 98 = .ok (.isub, 1) := dk_100 (dk_at dksX0_chance_4 5 rfl rfl)
theorem dX0_chance_99 : decode cX0_chance 99 = .ok (.i2l, 1) := dk_133 (dk_at dksX0_chance_4 6 rfl rfl)
theorem dX0_chance_100 : decode cX0_chance 100 = .ok (.lmul, 1) := dk_105 (dk_at dksX0_chance_4 7 rfl rfl)
theorem dX0_chance_101 : decode cX0_chance 101 = .ok (.iload 9, 2) := dk_21 9 (dk_at dksX0_chance_4 8 rfl rfl)
theorem dX0_chance_103 : decode cX0_chance 103 = .ok (.iconst 1, 1) := dk_4 (dk_at dksX0_chance_4 10 rfl rfl)
theorem dX0_chance_104 : decode cX0_chance 104 = .ok (.iadd, 1) := dk_96 (dk_at dksX0_chance_4 11 rfl rfl)
theorem dX0_chance_105 : decode cX0_chance 105 = .ok (.i2l, 1) := dk_133 (dk_at dksX0_chance_4 12 rfl rfl)
theorem dX0_chance_106 : decode cX0_chance 106 = .ok (.ldiv, 1) := dk_109 (dk_at dksX0_chance_4 13 rfl rfl)
theorem dX0_chance_107 : decode cX0_chance 107 = .ok (.lstore 5, 2) := dk_55 5 (dk_at dksX0_chance_4 14 rfl rfl)
theorem dX0_chance_109 : decode cX0_chance 109 = .ok (.iinc 9 1, 3) := dk_132 9 1 (dk_at dksX0_chance_4 16 rfl rfl)
theorem dX0_chance_112 : decode cX0_chance 112 = .ok (.goto (-60), 3) := dk_167 255 196 (dk_at dksX0_chance_4 19 rfl rfl)
theorem dX0_chance_115 : decode cX0_chance 115 = .ok (.ldc2_w 323, 3) := dk_20 1 67 (dk_at dksX0_chance_5 0 rfl rfl)
theorem dX0_chance_118 : decode cX0_chance 118 = .ok (.iload_n 1, 1) := dk_27 (dk_at dksX0_chance_5 3 rfl rfl)
theorem dX0_chance_119 : decode cX0_chance 119 = .ok (.invokestatic 319, 3) := dk_184 1 63 (dk_at dksX0_chance_5 4 rfl rfl)
theorem dX0_chance_122 : decode cX0_chance 122 = .ok (.lstore 9, 2) := dk_55 9 (dk_at dksX0_chance_5 7 rfl rfl)
theorem dX0_chance_124 : decode cX0_chance 124 = .ok (.lload 9, 2) := dk_22 9 (dk_at dksX0_chance_5 9 rfl rfl)
theorem dX0_chance_126 : decode cX0_chance 126 = .ok (.lload 7, 2) := dk_22 7 (dk_at dksX0_chance_5 11 rfl rfl)
theorem dX0_chance_128 : decode cX0_chance 128 = .ok (.invokestatic 314, 3) := dk_184 1 58 (dk_at dksX0_chance_5 13 rfl rfl)
theorem dX0_chance_131 : decode cX0_chance 131 = .ok (.lstore 11, 2) := dk_55 11 (dk_at dksX0_chance_5 16 rfl rfl)
theorem dX0_chance_133 : decode cX0_chance 133 = .ok (.iload 4, 2) := dk_21 4 (dk_at dksX0_chance_5 18 rfl rfl)
theorem dX0_chance_135 : decode cX0_chance 135 = .ok (.ifCond .ne 11, 3) := dk_154 0 11 (dk_at dksX0_chance_5 20 rfl rfl)
theorem dX0_chance_138 : decode cX0_chance 138 = .ok (.lload 7, 2) := dk_22 7 (dk_at dksX0_chance_6 0 rfl rfl)
theorem dX0_chance_140 : decode cX0_chance 140 = .ok (.lload 11, 2) := dk_22 11 (dk_at dksX0_chance_6 2 rfl rfl)
theorem dX0_chance_142 : decode cX0_chance 142 = .ok (.ldiv, 1) := dk_109 (dk_at dksX0_chance_6 4 rfl rfl)
theorem dX0_chance_143 : decode cX0_chance 143 = .ok (.goto 8, 3) := dk_167 0 8 (dk_at dksX0_chance_6 5 rfl rfl)
theorem dX0_chance_146 : decode cX0_chance 146 = .ok (.lload 9, 2) := dk_22 9 (dk_at dksX0_chance_6 8 rfl rfl)
theorem dX0_chance_148 : decode cX0_chance 148 = .ok (.lload 11, 2) := dk_22 11 (dk_at dksX0_chance_6 10 rfl rfl)
theorem dX0_chance_150 : decode cX0_chance 150 = .ok (.ldiv, 1) := dk_109 (dk_at dksX0_chance_6 12 rfl rfl)
theorem dX0_chance_151 : decode cX0_chance 151 = .ok (.lreturn, 1) := dk_173 (dk_at dksX0_chance_6 13 rfl rfl)
def dkwX0_power_0 : List UInt8 := [10, 66, 3, 54, 5, 21, 5, 28, 162, 0, 13, 33, 30, 105, 66, 132, 5, 1, 167, 255, 243, 33, 173]
abbrev dktX0_power_0 : List UInt8 := dkwX0_power_0 ++ []
theorem dksX0_power_0 : cX0_power.data.toList.drop 0 = dktX0_power_0 := by decide +kernel
theorem dX0_power_0 : decode cX0_power 0 = .ok (.lconst 1, 1) := dk_10 (dk_at dksX0_power_0 0 rfl rfl)
theorem dX0_power_1 : decode cX0_power 1 = .ok (.lstore_n 3, 1) := dk_66 (dk_at dksX0_power_0 1 rfl rfl)
theorem dX0_power_2 : decode cX0_power 2 = .ok (.iconst 0, 1) := dk_3 (dk_at dksX0_power_0 2 rfl rfl)
theorem dX0_power_3 : decode cX0_power 3 = .ok (.istore 5, 2) := dk_54 5 (dk_at dksX0_power_0 3 rfl rfl)
theorem dX0_power_5 : decode cX0_power 5 = .ok (.iload 5, 2) := dk_21 5 (dk_at dksX0_power_0 5 rfl rfl)
theorem dX0_power_7 : decode cX0_power 7 = .ok (.iload_n 2, 1) := dk_28 (dk_at dksX0_power_0 7 rfl rfl)
theorem dX0_power_8 : decode cX0_power 8 = .ok (.if_icmp .ge 13, 3) := dk_162 0 13 (dk_at dksX0_power_0 8 rfl rfl)
theorem dX0_power_11 : decode cX0_power 11 = .ok (.lload_n 3, 1) := dk_33 (dk_at dksX0_power_0 11 rfl rfl)
theorem dX0_power_12 : decode cX0_power 12 = .ok (.lload_n 0, 1) := dk_30 (dk_at dksX0_power_0 12 rfl rfl)
theorem dX0_power_13 : decode cX0_power 13 = .ok (.lmul, 1) := dk_105 (dk_at dksX0_power_0 13 rfl rfl)
theorem dX0_power_14 : decode cX0_power 14 = .ok (.lstore_n 3, 1) := dk_66 (dk_at dksX0_power_0 14 rfl rfl)
theorem dX0_power_15 : decode cX0_power 15 = .ok (.iinc 5 1, 3) := dk_132 5 1 (dk_at dksX0_power_0 15 rfl rfl)
theorem dX0_power_18 : decode cX0_power 18 = .ok (.goto (-13), 3) := dk_167 255 243 (dk_at dksX0_power_0 18 rfl rfl)
theorem dX0_power_21 : decode cX0_power 21 = .ok (.lload_n 3, 1) := dk_33 (dk_at dksX0_power_0 21 rfl rfl)
theorem dX0_power_22 : decode cX0_power 22 = .ok (.lreturn, 1) := dk_173 (dk_at dksX0_power_0 22 rfl rfl)
def dkwX0_common_0 : List UInt8 := [32, 9, 148, 154, 0, 7, 30, 167, 0, 10, 32, 30, 32, 113, 184, 1, 58, 173]
abbrev dktX0_common_0 : List UInt8 := dkwX0_common_0 ++ []
theorem dksX0_common_0 : cX0_common.data.toList.drop 0 = dktX0_common_0 := by decide +kernel
theorem dX0_common_0 : decode cX0_common 0 = .ok (.lload_n 2, 1) := dk_32 (dk_at dksX0_common_0 0 rfl rfl)
theorem dX0_common_1 : decode cX0_common 1 = .ok (.lconst 0, 1) := dk_9 (dk_at dksX0_common_0 1 rfl rfl)
theorem dX0_common_2 : decode cX0_common 2 = .ok (.lcmp, 1) := dk_148 (dk_at dksX0_common_0 2 rfl rfl)
theorem dX0_common_3 : decode cX0_common 3 = .ok (.ifCond .ne 7, 3) := dk_154 0 7 (dk_at dksX0_common_0 3 rfl rfl)
theorem dX0_common_6 : decode cX0_common 6 = .ok (.lload_n 0, 1) := dk_30 (dk_at dksX0_common_0 6 rfl rfl)
theorem dX0_common_7 : decode cX0_common 7 = .ok (.goto 10, 3) := dk_167 0 10 (dk_at dksX0_common_0 7 rfl rfl)
theorem dX0_common_10 : decode cX0_common 10 = .ok (.lload_n 2, 1) := dk_32 (dk_at dksX0_common_0 10 rfl rfl)
theorem dX0_common_11 : decode cX0_common 11 = .ok (.lload_n 0, 1) := dk_30 (dk_at dksX0_common_0 11 rfl rfl)
theorem dX0_common_12 : decode cX0_common 12 = .ok (.lload_n 2, 1) := dk_32 (dk_at dksX0_common_0 12 rfl rfl)
theorem dX0_common_13 : decode cX0_common 13 = .ok (.lrem, 1) := dk_113 (dk_at dksX0_common_0 13 rfl rfl)
theorem dX0_common_14 : decode cX0_common 14 = .ok (.invokestatic 314, 3) := dk_184 1 58 (dk_at dksX0_common_0 14 rfl rfl)
theorem dX0_common_17 : decode cX0_common 17 = .ok (.lreturn, 1) := dk_173 (dk_at dksX0_common_0 17 rfl rfl)
def dkwX0_round_6 : List UInt8 := [180, 0, 64, 28, 46, 172]
abbrev dktX0_round_6 : List UInt8 := dkwX0_round_6 ++ []
def dkwX0_round_5 : List UInt8 := [46, 79, 42, 4, 4, 3, 182, 1, 75, 28, 2, 160, 0, 10, 42, 180, 1, 72, 167, 0, 9, 42]
abbrev dktX0_round_5 : List UInt8 := dkwX0_round_5 ++ dktX0_round_6
def dkwX0_round_4 : List UInt8 := [181, 1, 69, 132, 3, 1, 167, 255, 209, 42, 2, 181, 1, 72, 42, 180, 0, 61, 3, 42, 180, 0, 58, 3]
abbrev dktX0_round_4 : List UInt8 := dkwX0_round_4 ++ dktX0_round_5
def dkwX0_round_3 : List UInt8 := [154, 0, 6, 167, 0, 23, 42, 180, 0, 58, 42, 180, 1, 69, 29, 79, 42, 89, 180, 1, 69, 4, 96]
abbrev dktX0_round_3 : List UInt8 := dkwX0_round_3 ++ dktX0_round_4
def dkwX0_round_2 : List UInt8 := [3, 181, 1, 69, 3, 62, 29, 42, 180, 0, 12, 180, 0, 71, 3, 46, 162, 0, 40, 27, 29, 122, 4, 126]
abbrev dktX0_round_2 : List UInt8 := dkwX0_round_2 ++ dktX0_round_3
def dkwX0_round_1 : List UInt8 := [184, 0, 166, 16, 8, 163, 0, 16, 28, 2, 161, 0, 11, 28, 27, 184, 0, 166, 161, 0, 5, 2, 172, 42]
abbrev dktX0_round_1 : List UInt8 := dkwX0_round_1 ++ dktX0_round_2
def dkwX0_round_0 : List UInt8 := [27, 4, 4, 42, 180, 0, 12, 180, 0, 71, 3, 46, 120, 4, 100, 184, 0, 74, 153, 0, 25, 27]
abbrev dktX0_round_0 : List UInt8 := dkwX0_round_0 ++ dktX0_round_1
theorem dksX0_round_0 : cX0_round.data.toList.drop 0 = dktX0_round_0 := by decide +kernel
theorem dksX0_round_1 : cX0_round.data.toList.drop 22 = dktX0_round_1 := dk_seg dksX0_round_0 22 rfl rfl
theorem dksX0_round_2 : cX0_round.data.toList.drop 46 = dktX0_round_2 := dk_seg dksX0_round_1 24 rfl rfl
theorem dksX0_round_3 : cX0_round.data.toList.drop 70 = dktX0_round_3 := dk_seg dksX0_round_2 24 rfl rfl
theorem dksX0_round_4 : cX0_round.data.toList.drop 93 = dktX0_round_4 := dk_seg dksX0_round_3 23 rfl rfl
theorem dksX0_round_5 : cX0_round.data.toList.drop 117 = dktX0_round_5 := dk_seg dksX0_round_4 24 rfl rfl
theorem dksX0_round_6 : cX0_round.data.toList.drop 139 = dktX0_round_6 := dk_seg dksX0_round_5 22 rfl rfl
theorem dX0_round_0 : decode cX0_round 0 = .ok (.iload_n 1, 1) := dk_27 (dk_at dksX0_round_0 0 rfl rfl)
theorem dX0_round_1 : decode cX0_round 1 = .ok (.iconst 1, 1) := dk_4 (dk_at dksX0_round_0 1 rfl rfl)
theorem dX0_round_2 : decode cX0_round 2 = .ok (.iconst 1, 1) := dk_4 (dk_at dksX0_round_0 2 rfl rfl)
theorem dX0_round_3 : decode cX0_round 3 = .ok (.aload_n 0, 1) := dk_42 (dk_at dksX0_round_0 3 rfl rfl)
theorem dX0_round_4 : decode cX0_round 4 = .ok (.getfield 12, 3) := dk_180 0 12 (dk_at dksX0_round_0 4 rfl rfl)
theorem dX0_round_7 : decode cX0_round 7 = .ok (.getfield 71, 3) := dk_180 0 71 (dk_at dksX0_round_0 7 rfl rfl)
theorem dX0_round_10 : decode cX0_round 10 = .ok (.iconst 0, 1) := dk_3 (dk_at dksX0_round_0 10 rfl rfl)
theorem dX0_round_11 : decode cX0_round 11 = .ok (.iaload, 1) := dk_46 (dk_at dksX0_round_0 11 rfl rfl)
theorem dX0_round_12 : decode cX0_round 12 = .ok (.ishl, 1) := dk_120 (dk_at dksX0_round_0 12 rfl rfl)
theorem dX0_round_13 : decode cX0_round 13 = .ok (.iconst 1, 1) := dk_4 (dk_at dksX0_round_0 13 rfl rfl)
theorem dX0_round_14 : decode cX0_round 14 = .ok (.isub, 1) := dk_100 (dk_at dksX0_round_0 14 rfl rfl)
theorem dX0_round_15 : decode cX0_round 15 = .ok (.invokestatic 74, 3) := dk_184 0 74 (dk_at dksX0_round_0 15 rfl rfl)
theorem dX0_round_18 : decode cX0_round 18 = .ok (.ifCond .eq 25, 3) := dk_153 0 25 (dk_at dksX0_round_0 18 rfl rfl)
theorem dX0_round_21 : decode cX0_round 21 = .ok (.iload_n 1, 1) := dk_27 (dk_at dksX0_round_0 21 rfl rfl)
theorem dX0_round_22 : decode cX0_round 22 = .ok (.invokestatic 166, 3) := dk_184 0 166 (dk_at dksX0_round_1 0 rfl rfl)
theorem dX0_round_25 : decode cX0_round 25 = .ok (.bipush 8, 2) := dk_16 8 (dk_at dksX0_round_1 3 rfl rfl)
theorem dX0_round_27 : decode cX0_round 27 = .ok (.if_icmp .gt 16, 3) := dk_163 0 16 (dk_at dksX0_round_1 5 rfl rfl)
theorem dX0_round_30 : decode cX0_round 30 = .ok (.iload_n 2, 1) := dk_28 (dk_at dksX0_round_1 8 rfl rfl)
theorem dX0_round_31 : decode cX0_round 31 = .ok (.iconst (-1), 1) := dk_2 (dk_at dksX0_round_1 9 rfl rfl)
theorem dX0_round_32 : decode cX0_round 32 = .ok (.if_icmp .lt 11, 3) := dk_161 0 11 (dk_at dksX0_round_1 10 rfl rfl)
theorem dX0_round_35 : decode cX0_round 35 = .ok (.iload_n 2, 1) := dk_28 (dk_at dksX0_round_1 13 rfl rfl)
theorem dX0_round_36 : decode cX0_round 36 = .ok (.iload_n 1, 1) := dk_27 (dk_at dksX0_round_1 14 rfl rfl)
theorem dX0_round_37 : decode cX0_round 37 = .ok (.invokestatic 166, 3) := dk_184 0 166 (dk_at dksX0_round_1 15 rfl rfl)
theorem dX0_round_40 : decode cX0_round 40 = .ok (.if_icmp .lt 5, 3) := dk_161 0 5 (dk_at dksX0_round_1 18 rfl rfl)
theorem dX0_round_43 : decode cX0_round 43 = .ok (.iconst (-1), 1) := dk_2 (dk_at dksX0_round_1 21 rfl rfl)
theorem dX0_round_44 : decode cX0_round 44 = .ok (.ireturn, 1) := dk_172 (dk_at dksX0_round_1 22 rfl rfl)
theorem dX0_round_45 : decode cX0_round 45 = .ok (.aload_n 0, 1) := dk_42 (dk_at dksX0_round_1 23 rfl rfl)
theorem dX0_round_46 : decode cX0_round 46 = .ok (.iconst 0, 1) := dk_3 (dk_at dksX0_round_2 0 rfl rfl)
theorem dX0_round_47 : decode cX0_round 47 = .ok (.putfield 325, 3) := dk_181 1 69 (dk_at dksX0_round_2 1 rfl rfl)
theorem dX0_round_50 : decode cX0_round 50 = .ok (.iconst 0, 1) := dk_3 (dk_at dksX0_round_2 4 rfl rfl)
theorem dX0_round_51 : decode cX0_round 51 = .ok (.istore_n 3, 1) := dk_62 (dk_at dksX0_round_2 5 rfl rfl)
theorem dX0_round_52 : decode cX0_round 52 = .ok (.iload_n 3, 1) := dk_29 (dk_at dksX0_round_2 6 rfl rfl)
theorem dX0_round_53 : decode cX0_round 53 = .ok (.aload_n 0, 1) := dk_42 (dk_at dksX0_round_2 7 rfl rfl)
theorem dX0_round_54 : decode cX0_round 54 = .ok (.getfield 12, 3) := dk_180 0 12 (dk_at dksX0_round_2 8 rfl rfl)
theorem dX0_round_57 : decode cX0_round 57 = .ok (.getfield 71, 3) := dk_180 0 71 (dk_at dksX0_round_2 11 rfl rfl)
theorem dX0_round_60 : decode cX0_round 60 = .ok (.iconst 0, 1) := dk_3 (dk_at dksX0_round_2 14 rfl rfl)
theorem dX0_round_61 : decode cX0_round 61 = .ok (.iaload, 1) := dk_46 (dk_at dksX0_round_2 15 rfl rfl)
theorem dX0_round_62 : decode cX0_round 62 = .ok (.if_icmp .ge 40, 3) := dk_162 0 40 (dk_at dksX0_round_2 16 rfl rfl)
theorem dX0_round_65 : decode cX0_round 65 = .ok (.iload_n 1, 1) := dk_27 (dk_at dksX0_round_2 19 rfl rfl)
theorem dX0_round_66 : decode cX0_round 66 = .ok (.iload_n 3, 1) := dk_29 (dk_at dksX0_round_2 20 rfl rfl)
theorem dX0_round_67 : decode cX0_round 67 = .ok (.ishr, 1) := dk_122 (dk_at dksX0_round_2 21 rfl rfl)
theorem dX0_round_68 : decode cX0_round 68 = .ok (.iconst 1, 1) := dk_4 (dk_at dksX0_round_2 22 rfl rfl)
theorem dX0_round_69 : decode cX0_round 69 = .ok (.iand, 1) := dk_126 (dk_at dksX0_round_2 23 rfl rfl)
theorem dX0_round_70 : decode cX0_round 70 = .ok (.ifCond .ne 6, 3) := dk_154 0 6 (dk_at dksX0_round_3 0 rfl rfl)
theorem dX0_round_73 : decode cX0_round 73 = .ok (.goto 23, 3) := dk_167 0 23 (dk_at dksX0_round_3 3 rfl rfl)
theorem dX0_round_76 : decode cX0_round 76 = .ok (.aload_n 0, 1) := dk_42 (dk_at dksX0_round_3 6 rfl rfl)
theorem dX0_round_77 : decode cX0_round 77 = .ok (.getfield 58, 3) := dk_180 0 58 (dk_at dksX0_round_3 7 rfl rfl)
theorem dX0_round_80 : decode cX0_round 80 = .ok (.aload_n 0, 1) := dk_42 (dk_at dksX0_round_3 10 rfl rfl)
theorem dX0_round_81 : decode cX0_round 81 = .ok (.getfield 325, 3) := dk_180 1 69 (dk_at dksX0_round_3 11 rfl rfl)
theorem dX0_round_84 : decode cX0_round 84 = .ok (.iload_n 3, 1) := dk_29 (dk_at dksX0_round_3 14 rfl rfl)
theorem dX0_round_85 : decode cX0_round 85 = .ok (.iastore, 1) := dk_79 (dk_at dksX0_round_3 15 rfl rfl)
theorem dX0_round_86 : decode cX0_round 86 = .ok (.aload_n 0, 1) := dk_42 (dk_at dksX0_round_3 16 rfl rfl)
theorem dX0_round_87 : decode cX0_round 87 = .ok (.dup, 1) := dk_89 (dk_at dksX0_round_3 17 rfl rfl)
theorem dX0_round_88 : decode cX0_round 88 = .ok (.getfield 325, 3) := dk_180 1 69 (dk_at dksX0_round_3 18 rfl rfl)
theorem dX0_round_91 : decode cX0_round 91 = .ok (.iconst 1, 1) := dk_4 (dk_at dksX0_round_3 21 rfl rfl)
theorem dX0_round_92 : decode cX0_round 92 = .ok (.iadd, 1) := dk_96 (dk_at dksX0_round_3 22 rfl rfl)
theorem dX0_round_93 : decode cX0_round 93 = .ok (.putfield 325, 3) := dk_181 1 69 (dk_at dksX0_round_4 0 rfl rfl)
theorem dX0_round_96 : decode cX0_round 96 = .ok (.iinc 3 1, 3) := dk_132 3 1 (dk_at dksX0_round_4 3 rfl rfl)
theorem dX0_round_99 : decode cX0_round 99 = .ok (.goto (-47), 3) := dk_167 255 209 (dk_at dksX0_round_4 6 rfl rfl)
theorem dX0_round_102 : decode cX0_round 102 = .ok (.aload_n 0, 1) := dk_42 (dk_at dksX0_round_4 9 rfl rfl)
theorem dX0_round_103 : decode cX0_round 103 = .ok (.iconst (-1), 1) := dk_2 (dk_at dksX0_round_4 10 rfl rfl)
theorem dX0_round_104 : decode cX0_round 104 = .ok (.putfield 328, 3) := dk_181 1 72 (dk_at dksX0_round_4 11 rfl rfl)
theorem dX0_round_107 : decode cX0_round 107 = .ok (.aload_n 0, 1) := dk_42 (dk_at dksX0_round_4 14 rfl rfl)
theorem dX0_round_108 : decode cX0_round 108 = .ok (.getfield 61, 3) := dk_180 0 61 (dk_at dksX0_round_4 15 rfl rfl)
theorem dX0_round_111 : decode cX0_round 111 = .ok (.iconst 0, 1) := dk_3 (dk_at dksX0_round_4 18 rfl rfl)
theorem dX0_round_112 : decode cX0_round 112 = .ok (.aload_n 0, 1) := dk_42 (dk_at dksX0_round_4 19 rfl rfl)
theorem dX0_round_113 : decode cX0_round 113 = .ok (.getfield 58, 3) := dk_180 0 58 (dk_at dksX0_round_4 20 rfl rfl)
theorem dX0_round_116 : decode cX0_round 116 = .ok (.iconst 0, 1) := dk_3 (dk_at dksX0_round_4 23 rfl rfl)
theorem dX0_round_117 : decode cX0_round 117 = .ok (.iaload, 1) := dk_46 (dk_at dksX0_round_5 0 rfl rfl)
theorem dX0_round_118 : decode cX0_round 118 = .ok (.iastore, 1) := dk_79 (dk_at dksX0_round_5 1 rfl rfl)
theorem dX0_round_119 : decode cX0_round 119 = .ok (.aload_n 0, 1) := dk_42 (dk_at dksX0_round_5 2 rfl rfl)
theorem dX0_round_120 : decode cX0_round 120 = .ok (.iconst 1, 1) := dk_4 (dk_at dksX0_round_5 3 rfl rfl)
theorem dX0_round_121 : decode cX0_round 121 = .ok (.iconst 1, 1) := dk_4 (dk_at dksX0_round_5 4 rfl rfl)
theorem dX0_round_122 : decode cX0_round 122 = .ok (.iconst 0, 1) := dk_3 (dk_at dksX0_round_5 5 rfl rfl)
theorem dX0_round_123 : decode cX0_round 123 = .ok (.invokevirtual 331, 3) := dk_182 1 75 (dk_at dksX0_round_5 6 rfl rfl)
theorem dX0_round_126 : decode cX0_round 126 = .ok (.iload_n 2, 1) := dk_28 (dk_at dksX0_round_5 9 rfl rfl)
theorem dX0_round_127 : decode cX0_round 127 = .ok (.iconst (-1), 1) := dk_2 (dk_at dksX0_round_5 10 rfl rfl)
theorem dX0_round_128 : decode cX0_round 128 = .ok (.if_icmp .ne 10, 3) := dk_160 0 10 (dk_at dksX0_round_5 11 rfl rfl)
theorem dX0_round_131 : decode cX0_round 131 = .ok (.aload_n 0, 1) := dk_42 (dk_at dksX0_round_5 14 rfl rfl)
theorem dX0_round_132 : decode cX0_round 132 = .ok (.getfield 328, 3) := dk_180 1 72 (dk_at dksX0_round_5 15 rfl rfl)
theorem dX0_round_135 : decode cX0_round 135 = .ok (.goto 9, 3) := dk_167 0 9 (dk_at dksX0_round_5 18 rfl rfl)
theorem dX0_round_138 : decode cX0_round 138 = .ok (.aload_n 0, 1) := dk_42 (dk_at dksX0_round_5 21 rfl rfl)
theorem dX0_round_139 : decode cX0_round 139 = .ok (.getfield 64, 3) := dk_180 0 64 (dk_at dksX0_round_6 0 rfl rfl)
theorem dX0_round_142 : decode cX0_round 142 = .ok (.iload_n 2, 1) := dk_28 (dk_at dksX0_round_6 3 rfl rfl)
theorem dX0_round_143 : decode cX0_round 143 = .ok (.iaload, 1) := dk_46 (dk_at dksX0_round_6 4 rfl rfl)
theorem dX0_round_144 : decode cX0_round 144 = .ok (.ireturn, 1) := dk_172 (dk_at dksX0_round_6 5 rfl rfl)
def dkwX0_goesRound_6 : List UInt8 := [182, 1, 75, 132, 4, 1, 167, 255, 185, 177]
abbrev dktX0_goesRound_6 : List UInt8 := dkwX0_goesRound_6 ++ []
def dkwX0_goesRound_5 : List UInt8 := [120, 128, 29, 42, 42, 180, 0, 61, 27, 4, 100, 46, 42, 180, 0, 61, 27, 46, 182, 1, 36, 96]
abbrev dktX0_goesRound_5 : List UInt8 := dkwX0_goesRound_5 ++ dktX0_goesRound_6
def dkwX0_goesRound_4 : List UInt8 := [167, 0, 49, 42, 180, 0, 61, 27, 42, 180, 0, 58, 21, 4, 46, 79, 42, 27, 4, 96, 28, 4, 21, 4]
abbrev dktX0_goesRound_4 : List UInt8 := dkwX0_goesRound_4 ++ dktX0_goesRound_5
def dkwX0_goesRound_3 : List UInt8 := [4, 54, 4, 21, 4, 42, 180, 1, 69, 162, 0, 68, 28, 21, 4, 122, 4, 126, 4, 160, 0, 6]
abbrev dktX0_goesRound_3 : List UInt8 := dkwX0_goesRound_3 ++ dktX0_goesRound_4
def dkwX0_goesRound_2 : List UInt8 := [42, 21, 4, 181, 1, 72, 42, 180, 0, 61, 3, 42, 180, 0, 64, 3, 42, 180, 1, 69, 184, 0, 104, 177]
abbrev dktX0_goesRound_2 : List UInt8 := dkwX0_goesRound_2 ++ dktX0_goesRound_3
def dkwX0_goesRound_1 : List UInt8 := [182, 1, 36, 96, 54, 4, 42, 180, 1, 72, 2, 159, 0, 13, 21, 4, 42, 180, 1, 72, 161, 0, 4, 177]
abbrev dktX0_goesRound_1 : List UInt8 := dkwX0_goesRound_1 ++ dktX0_goesRound_2
def dkwX0_goesRound_0 : List UInt8 := [27, 42, 180, 1, 69, 160, 0, 67, 29, 42, 42, 180, 0, 61, 27, 4, 100, 46, 42, 180, 0, 61, 3, 46]
abbrev dktX0_goesRound_0 : List UInt8 := dkwX0_goesRound_0 ++ dktX0_goesRound_1
theorem dksX0_goesRound_0 : cX0_goesRound.data.toList.drop 0 = dktX0_goesRound_0 := by decide +kernel
theorem dksX0_goesRound_1 : cX0_goesRound.data.toList.drop 24 = dktX0_goesRound_1 := dk_seg dksX0_goesRound_0 24 rfl rfl
theorem dksX0_goesRound_2 : cX0_goesRound.data.toList.drop 48 = dktX0_goesRound_2 := dk_seg dksX0_goesRound_1 24 rfl rfl
theorem dksX0_goesRound_3 : cX0_goesRound.data.toList.drop 72 = dktX0_goesRound_3 := dk_seg dksX0_goesRound_2 24 rfl rfl
theorem dksX0_goesRound_4 : cX0_goesRound.data.toList.drop 94 = dktX0_goesRound_4 := dk_seg dksX0_goesRound_3 22 rfl rfl
theorem dksX0_goesRound_5 : cX0_goesRound.data.toList.drop 118 = dktX0_goesRound_5 := dk_seg dksX0_goesRound_4 24 rfl rfl
theorem dksX0_goesRound_6 : cX0_goesRound.data.toList.drop 140 = dktX0_goesRound_6 := dk_seg dksX0_goesRound_5 22 rfl rfl
theorem dX0_goesRound_0 : decode cX0_goesRound 0 = .ok (.iload_n 1, 1) := dk_27 (dk_at dksX0_goesRound_0 0 rfl rfl)
theorem dX0_goesRound_1 : decode cX0_goesRound 1 = .ok (.aload_n 0, 1) := dk_42 (dk_at dksX0_goesRound_0 1 rfl rfl)
theorem dX0_goesRound_2 : decode cX0_goesRound 2 = .ok (.getfield 325, 3) := dk_180 1 69 (dk_at dksX0_goesRound_0 2 rfl rfl)
theorem dX0_goesRound_5 : decode cX0_goesRound 5 = .ok (.if_icmp .ne 67, 3) := dk_160 0 67 (dk_at dksX0_goesRound_0 5 rfl rfl)
theorem dX0_goesRound_8 : decode cX0_goesRound 8 = .ok (.iload_n 3, 1) := dk_29 (dk_at dksX0_goesRound_0 8 rfl rfl)
theorem dX0_goesRound_9 : decode cX0_goesRound 9 = .ok (.aload_n 0, 1) := dk_42 (dk_at dksX0_goesRound_0 9 rfl rfl)
theorem dX0_goesRound_10 : decode cX0_goesRound 10 = .ok (.aload_n 0, 1) := dk_42 (dk_at dksX0_goesRound_0 10 rfl rfl)
theorem dX0_goesRound_11 : decode cX0_goesRound 11 = .ok (.getfield 61, 3) := dk_180 0 61 (dk_at dksX0_goesRound_0 11 rfl rfl)
theorem dX0_goesRound_14 : decode cX0_goesRound 14 = .ok (.iload_n 1, 1) := dk_27 (dk_at dksX0_goesRound_0 14 rfl rfl)
theorem dX0_goesRound_15 : decode cX0_goesRound 15 = .ok (.iconst 1, 1) := dk_4 (dk_at dksX0_goesRound_0 15 rfl rfl)
theorem dX0_goesRound_16 : decode cX0_goesRound 16 = .ok (.isub, 1) := dk_100 (dk_at dksX0_goesRound_0 16 rfl rfl)
theorem dX0_goesRound_17 : decode cX0_goesRound 17 = .ok (.iaload, 1) := dk_46 (dk_at dksX0_goesRound_0 17 rfl rfl)
theorem dX0_goesRound_18 : decode cX0_goesRound 18 = .ok (.aload_n 0, 1) := dk_42 (dk_at dksX0_goesRound_0 18 rfl rfl)
theorem dX0_goesRound_19 : decode cX0_goesRound 19 = .ok (.getfield 61, 3) := dk_180 0 61 (dk_at dksX0_goesRound_0 19 rfl rfl)
theorem dX0_goesRound_22 : decode cX0_goesRound 22 = .ok (.iconst 0, 1) := dk_3 (dk_at dksX0_goesRound_0 22 rfl rfl)
theorem dX0_goesRound_23 : decode cX0_goesRound 23 = .ok (.iaload, 1) := dk_46 (dk_at dksX0_goesRound_0 23 rfl rfl)
theorem dX0_goesRound_24 : decode cX0_goesRound 24 = .ok (.invokevirtual 292, 3) := dk_182 1 36 (dk_at dksX0_goesRound_1 0 rfl rfl)
theorem dX0_goesRound_27 : decode cX0_goesRound 27 = .ok (.iadd, 1) := dk_96 (dk_at dksX0_goesRound_1 3 rfl rfl)
theorem dX0_goesRound_28 : decode cX0_goesRound 28 = .ok (.istore 4, 2) := dk_54 4 (dk_at dksX0_goesRound_1 4 rfl rfl)
theorem dX0_goesRound_30 : decode cX0_goesRound 30 = .ok (.aload_n 0, 1) := dk_42 (dk_at dksX0_goesRound_1 6 rfl rfl)
theorem dX0_goesRound_31 : decode cX0_goesRound 31 = .ok (.getfield 328, 3) := dk_180 1 72 (dk_at dksX0_goesRound_1 7 rfl rfl)
theorem dX0_goesRound_34 : decode cX0_goesRound 34 = .ok (.iconst (-1), 1) := dk_2 (dk_at dksX0_goesRound_1 10 rfl rfl)
theorem dX0_goesRound_35 : decode cX0_goesRound 35 = .ok (.if_icmp .eq 13, 3) := dk_159 0 13 (dk_at dksX0_goesRound_1 11 rfl rfl)
theorem dX0_goesRound_38 : decode cX0_goesRound 38 = .ok (.iload 4, 2) := dk_21 4 (dk_at dksX0_goesRound_1 14 rfl rfl)
theorem dX0_goesRound_40 : decode cX0_goesRound 40 = .ok (.aload_n 0, 1) := dk_42 (dk_at dksX0_goesRound_1 16 rfl rfl)
theorem dX0_goesRound_41 : decode cX0_goesRound 41 = .ok (.getfield 328, 3) := dk_180 1 72 (dk_at dksX0_goesRound_1 17 rfl rfl)
theorem dX0_goesRound_44 : decode cX0_goesRound 44 = .ok (.if_icmp .lt 4, 3) := dk_161 0 4 (dk_at dksX0_goesRound_1 20 rfl rfl)
theorem dX0_goesRound_47 : decode cX0_goesRound 47 = .ok (.return_, 1) := dk_177 (dk_at dksX0_goesRound_1 23 rfl rfl)
theorem dX0_goesRound_48 : decode cX0_goesRound 48 = .ok (.aload_n 0, 1) := dk_42 (dk_at dksX0_goesRound_2 0 rfl rfl)
theorem dX0_goesRound_49 : decode cX0_goesRound 49 = .ok (.iload 4, 2) := dk_21 4 (dk_at dksX0_goesRound_2 1 rfl rfl)
theorem dX0_goesRound_51 : decode cX0_goesRound 51 = .ok (.putfield 328, 3) := dk_181 1 72 (dk_at dksX0_goesRound_2 3 rfl rfl)
theorem dX0_goesRound_54 : decode cX0_goesRound 54 = .ok (.aload_n 0, 1) := dk_42 (dk_at dksX0_goesRound_2 6 rfl rfl)
theorem dX0_goesRound_55 : decode cX0_goesRound 55 = .ok (.getfield 61, 3) := dk_180 0 61 (dk_at dksX0_goesRound_2 7 rfl rfl)
theorem dX0_goesRound_58 : decode cX0_goesRound 58 = .ok (.iconst 0, 1) := dk_3 (dk_at dksX0_goesRound_2 10 rfl rfl)
theorem dX0_goesRound_59 : decode cX0_goesRound 59 = .ok (.aload_n 0, 1) := dk_42 (dk_at dksX0_goesRound_2 11 rfl rfl)
theorem dX0_goesRound_60 : decode cX0_goesRound 60 = .ok (.getfield 64, 3) := dk_180 0 64 (dk_at dksX0_goesRound_2 12 rfl rfl)
theorem dX0_goesRound_63 : decode cX0_goesRound 63 = .ok (.iconst 0, 1) := dk_3 (dk_at dksX0_goesRound_2 15 rfl rfl)
theorem dX0_goesRound_64 : decode cX0_goesRound 64 = .ok (.aload_n 0, 1) := dk_42 (dk_at dksX0_goesRound_2 16 rfl rfl)
theorem dX0_goesRound_65 : decode cX0_goesRound 65 = .ok (.getfield 325, 3) := dk_180 1 69 (dk_at dksX0_goesRound_2 17 rfl rfl)
theorem dX0_goesRound_68 : decode cX0_goesRound 68 = .ok (.invokestatic 104, 3) := dk_184 0 104 (dk_at dksX0_goesRound_2 20 rfl rfl)
theorem dX0_goesRound_71 : decode cX0_goesRound 71 = .ok (.return_, 1) := dk_177 (dk_at dksX0_goesRound_2 23 rfl rfl)
theorem dX0_goesRound_72 : decode cX0_goesRound 72 = .ok (.iconst 1, 1) := dk_4 (dk_at dksX0_goesRound_3 0 rfl rfl)
theorem dX0_goesRound_73 : decode cX0_goesRound 73 = .ok (.istore 4, 2) := dk_54 4 (dk_at dksX0_goesRound_3 1 rfl rfl)
theorem dX0_goesRound_75 : decode cX0_goesRound 75 = .ok (.iload 4, 2) := dk_21 4 (dk_at dksX0_goesRound_3 3 rfl rfl)
theorem dX0_goesRound_77 : decode cX0_goesRound 77 = .ok (.aload_n 0, 1) := dk_42 (dk_at dksX0_goesRound_3 5 rfl rfl)
theorem dX0_goesRound_78 : decode cX0_goesRound 78 = .ok (.getfield 325, 3) := dk_180 1 69 (dk_at dksX0_goesRound_3 6 rfl rfl)
theorem dX0_goesRound_81 : decode cX0_goesRound 81 = .ok (.if_icmp .ge 68, 3) := dk_162 0 68 (dk_at dksX0_goesRound_3 9 rfl rfl)
theorem dX0_goesRound_84 : decode cX0_goesRound 84 = .ok (.iload_n 2, 1) := dk_28 (dk_at dksX0_goesRound_3 12 rfl rfl)
theorem dX0_goesRound_85 : decode cX0_goesRound 85 = .ok (.iload 4, 2) := dk_21 4 (dk_at dksX0_goesRound_3 13 rfl rfl)
theorem dX0_goesRound_87 : decode cX0_goesRound 87 = .ok (.ishr, 1) := dk_122 (dk_at dksX0_goesRound_3 15 rfl rfl)
theorem dX0_goesRound_88 : decode cX0_goesRound 88 = .ok (.iconst 1, 1) := dk_4 (dk_at dksX0_goesRound_3 16 rfl rfl)
theorem dX0_goesRound_89 : decode cX0_goesRound 89 = .ok (.iand, 1) := dk_126 (dk_at dksX0_goesRound_3 17 rfl rfl)
theorem dX0_goesRound_90 : decode cX0_goesRound 90 = .ok (.iconst 1, 1) := dk_4 (dk_at dksX0_goesRound_3 18 rfl rfl)
theorem dX0_goesRound_91 : decode cX0_goesRound 91 = .ok (.if_icmp .ne 6, 3) := dk_160 0 6 (dk_at dksX0_goesRound_3 19 rfl rfl)
theorem dX0_goesRound_94 : decode cX0_goesRound 94 = .ok (.goto 49, 3) := dk_167 0 49 (dk_at dksX0_goesRound_4 0 rfl rfl)
theorem dX0_goesRound_97 : decode cX0_goesRound 97 = .ok (.aload_n 0, 1) := dk_42 (dk_at dksX0_goesRound_4 3 rfl rfl)
theorem dX0_goesRound_98 : decode cX0_goesRound 98 = .ok (.getfield 61, 3) := dk_180 0 61 (dk_at dksX0_goesRound_4 4 rfl rfl)
theorem dX0_goesRound_101 : decode cX0_goesRound 101 = .ok (.iload_n 1, 1) := dk_27 (dk_at dksX0_goesRound_4 7 rfl rfl)
theorem dX0_goesRound_102 : decode cX0_goesRound 102 = .ok (.aload_n 0, 1) := dk_42 (dk_at dksX0_goesRound_4 8 rfl rfl)
theorem dX0_goesRound_103 : decode cX0_goesRound 103 = .ok (.getfield 58, 3) := dk_180 0 58 (dk_at dksX0_goesRound_4 9 rfl rfl)
theorem dX0_goesRound_106 : decode cX0_goesRound 106 = .ok (.iload 4, 2) := dk_21 4 (dk_at dksX0_goesRound_4 12 rfl rfl)
theorem dX0_goesRound_108 : decode cX0_goesRound 108 = .ok (.iaload, 1) := dk_46 (dk_at dksX0_goesRound_4 14 rfl rfl)
theorem dX0_goesRound_109 : decode cX0_goesRound 109 = .ok (.iastore, 1) := dk_79 (dk_at dksX0_goesRound_4 15 rfl rfl)
theorem dX0_goesRound_110 : decode cX0_goesRound 110 = .ok (.aload_n 0, 1) := dk_42 (dk_at dksX0_goesRound_4 16 rfl rfl)
theorem dX0_goesRound_111 : decode cX0_goesRound 111 = .ok (.iload_n 1, 1) := dk_27 (dk_at dksX0_goesRound_4 17 rfl rfl)
theorem dX0_goesRound_112 : decode cX0_goesRound 112 = .ok (.iconst 1, 1) := dk_4 (dk_at dksX0_goesRound_4 18 rfl rfl)
theorem dX0_goesRound_113 : decode cX0_goesRound 113 = .ok (.iadd, 1) := dk_96 (dk_at dksX0_goesRound_4 19 rfl rfl)
theorem dX0_goesRound_114 : decode cX0_goesRound 114 = .ok (.iload_n 2, 1) := dk_28 (dk_at dksX0_goesRound_4 20 rfl rfl)
theorem dX0_goesRound_115 : decode cX0_goesRound 115 = .ok (.iconst 1, 1) := dk_4 (dk_at dksX0_goesRound_4 21 rfl rfl)
theorem dX0_goesRound_116 : decode cX0_goesRound 116 = .ok (.iload 4, 2) := dk_21 4 (dk_at dksX0_goesRound_4 22 rfl rfl)
theorem dX0_goesRound_118 : decode cX0_goesRound 118 = .ok (.ishl, 1) := dk_120 (dk_at dksX0_goesRound_5 0 rfl rfl)
theorem dX0_goesRound_119 : decode cX0_goesRound 119 = .ok (.ior, 1) := dk_128 (dk_at dksX0_goesRound_5 1 rfl rfl)
theorem dX0_goesRound_120 : decode cX0_goesRound 120 = .ok (.iload_n 3, 1) := dk_29 (dk_at dksX0_goesRound_5 2 rfl rfl)
theorem dX0_goesRound_121 : decode cX0_goesRound 121 = .ok (.aload_n 0, 1) := dk_42 (dk_at dksX0_goesRound_5 3 rfl rfl)
theorem dX0_goesRound_122 : decode cX0_goesRound 122 = .ok (.aload_n 0, 1) := dk_42 (dk_at dksX0_goesRound_5 4 rfl rfl)
theorem dX0_goesRound_123 : decode cX0_goesRound 123 = .ok (.getfield 61, 3) := dk_180 0 61 (dk_at dksX0_goesRound_5 5 rfl rfl)
theorem dX0_goesRound_126 : decode cX0_goesRound 126 = .ok (.iload_n 1, 1) := dk_27 (dk_at dksX0_goesRound_5 8 rfl rfl)
theorem dX0_goesRound_127 : decode cX0_goesRound 127 = .ok (.iconst 1, 1) := dk_4 (dk_at dksX0_goesRound_5 9 rfl rfl)
theorem dX0_goesRound_128 : decode cX0_goesRound 128 = .ok (.isub, 1) := dk_100 (dk_at dksX0_goesRound_5 10 rfl rfl)
theorem dX0_goesRound_129 : decode cX0_goesRound 129 = .ok (.iaload, 1) := dk_46 (dk_at dksX0_goesRound_5 11 rfl rfl)
theorem dX0_goesRound_130 : decode cX0_goesRound 130 = .ok (.aload_n 0, 1) := dk_42 (dk_at dksX0_goesRound_5 12 rfl rfl)
theorem dX0_goesRound_131 : decode cX0_goesRound 131 = .ok (.getfield 61, 3) := dk_180 0 61 (dk_at dksX0_goesRound_5 13 rfl rfl)
theorem dX0_goesRound_134 : decode cX0_goesRound 134 = .ok (.iload_n 1, 1) := dk_27 (dk_at dksX0_goesRound_5 16 rfl rfl)
theorem dX0_goesRound_135 : decode cX0_goesRound 135 = .ok (.iaload, 1) := dk_46 (dk_at dksX0_goesRound_5 17 rfl rfl)
theorem dX0_goesRound_136 : decode cX0_goesRound 136 = .ok (.invokevirtual 292, 3) := dk_182 1 36 (dk_at dksX0_goesRound_5 18 rfl rfl)
theorem dX0_goesRound_139 : decode cX0_goesRound 139 = .ok (.iadd, 1) := dk_96 (dk_at dksX0_goesRound_5 21 rfl rfl)
theorem dX0_goesRound_140 : decode cX0_goesRound 140 = .ok (.invokevirtual 331, 3) := dk_182 1 75 (dk_at dksX0_goesRound_6 0 rfl rfl)
theorem dX0_goesRound_143 : decode cX0_goesRound 143 = .ok (.iinc 4 1, 3) := dk_132 4 1 (dk_at dksX0_goesRound_6 3 rfl rfl)
theorem dX0_goesRound_146 : decode cX0_goesRound 146 = .ok (.goto (-71), 3) := dk_167 255 185 (dk_at dksX0_goesRound_6 6 rfl rfl)
theorem dX0_goesRound_149 : decode cX0_goesRound 149 = .ok (.return_, 1) := dk_177 (dk_at dksX0_goesRound_6 9 rfl rfl)
def dkwX0_pilgrims_5 : List UInt8 := [21, 5, 172]
abbrev dktX0_pilgrims_5 : List UInt8 := dkwX0_pilgrims_5 ++ []
def dkwX0_pilgrims_4 : List UInt8 := [182, 1, 80, 29, 162, 0, 13, 21, 7, 21, 4, 160, 0, 6, 132, 5, 1, 132, 6, 1, 167, 255, 203]
abbrev dktX0_pilgrims_4 : List UInt8 := dkwX0_pilgrims_4 ++ dktX0_pilgrims_5
def dkwX0_pilgrims_3 : List UInt8 := [180, 0, 71, 3, 46, 182, 1, 80, 54, 7, 42, 21, 7, 182, 1, 83, 153, 0, 23, 42, 16, 6]
abbrev dktX0_pilgrims_3 : List UInt8 := dkwX0_pilgrims_3 ++ dktX0_pilgrims_4
def dkwX0_pilgrims_2 : List UInt8 := [16, 15, 96, 181, 1, 78, 3, 54, 5, 3, 54, 6, 21, 6, 28, 162, 0, 53, 42, 42, 180, 0, 12]
abbrev dktX0_pilgrims_2 : List UInt8 := dkwX0_pilgrims_2 ++ dktX0_pilgrims_3
def dkwX0_pilgrims_1 : List UInt8 := [16, 6, 184, 0, 74, 153, 0, 12, 42, 21, 4, 182, 0, 93, 154, 0, 5, 2, 172, 42, 27, 16, 7, 104]
abbrev dktX0_pilgrims_1 : List UInt8 := dkwX0_pilgrims_1 ++ dktX0_pilgrims_2
def dkwX0_pilgrims_0 : List UInt8 := [27, 3, 17, 39, 15, 184, 0, 74, 153, 0, 32, 28, 4, 16, 99, 184, 0, 74, 153, 0, 22, 29, 3]
abbrev dktX0_pilgrims_0 : List UInt8 := dkwX0_pilgrims_0 ++ dktX0_pilgrims_1
theorem dksX0_pilgrims_0 : cX0_pilgrims.data.toList.drop 0 = dktX0_pilgrims_0 := by decide +kernel
theorem dksX0_pilgrims_1 : cX0_pilgrims.data.toList.drop 23 = dktX0_pilgrims_1 := dk_seg dksX0_pilgrims_0 23 rfl rfl
theorem dksX0_pilgrims_2 : cX0_pilgrims.data.toList.drop 47 = dktX0_pilgrims_2 := dk_seg dksX0_pilgrims_1 24 rfl rfl
theorem dksX0_pilgrims_3 : cX0_pilgrims.data.toList.drop 70 = dktX0_pilgrims_3 := dk_seg dksX0_pilgrims_2 23 rfl rfl
theorem dksX0_pilgrims_4 : cX0_pilgrims.data.toList.drop 92 = dktX0_pilgrims_4 := dk_seg dksX0_pilgrims_3 22 rfl rfl
theorem dksX0_pilgrims_5 : cX0_pilgrims.data.toList.drop 115 = dktX0_pilgrims_5 := dk_seg dksX0_pilgrims_4 23 rfl rfl
theorem dX0_pilgrims_0 : decode cX0_pilgrims 0 = .ok (.iload_n 1, 1) := dk_27 (dk_at dksX0_pilgrims_0 0 rfl rfl)
theorem dX0_pilgrims_1 : decode cX0_pilgrims 1 = .ok (.iconst 0, 1) := dk_3 (dk_at dksX0_pilgrims_0 1 rfl rfl)
theorem dX0_pilgrims_2 : decode cX0_pilgrims 2 = .ok (.sipush 9999, 3) := dk_17 39 15 (dk_at dksX0_pilgrims_0 2 rfl rfl)
theorem dX0_pilgrims_5 : decode cX0_pilgrims 5 = .ok (.invokestatic 74, 3) := dk_184 0 74 (dk_at dksX0_pilgrims_0 5 rfl rfl)
theorem dX0_pilgrims_8 : decode cX0_pilgrims 8 = .ok (.ifCond .eq 32, 3) := dk_153 0 32 (dk_at dksX0_pilgrims_0 8 rfl rfl)
theorem dX0_pilgrims_11 : decode cX0_pilgrims 11 = .ok (.iload_n 2, 1) := dk_28 (dk_at dksX0_pilgrims_0 11 rfl rfl)
theorem dX0_pilgrims_12 : decode cX0_pilgrims 12 = .ok (.iconst 1, 1) := dk_4 (dk_at dksX0_pilgrims_0 12 rfl rfl)
theorem dX0_pilgrims_13 : decode cX0_pilgrims 13 = .ok (.bipush 99, 2) := dk_16 99 (dk_at dksX0_pilgrims_0 13 rfl rfl)
theorem dX0_pilgrims_15 : decode cX0_pilgrims 15 = .ok (.invokestatic 74, 3) := dk_184 0 74 (dk_at dksX0_pilgrims_0 15 rfl rfl)
theorem dX0_pilgrims_18 : decode cX0_pilgrims 18 = .ok (.ifCond .eq 22, 3) := dk_153 0 22 (dk_at dksX0_pilgrims_0 18 rfl rfl)
theorem dX0_pilgrims_21 : decode cX0_pilgrims 21 = .ok (.iload_n 3, 1) := dk_29 (dk_at dksX0_pilgrims_0 21 rfl rfl)
theorem dX0_pilgrims_22 : decode cX0_pilgrims 22 = .ok (.iconst 0, 1) := dk_3 (dk_at dksX0_pilgrims_0 22 rfl rfl)
theorem dX0_pilgrims_23 : decode cX0_pilgrims 23 = .ok (.bipush 6, 2) := dk_16 6 (dk_at dksX0_pilgrims_1 0 rfl rfl)
theorem dX0_pilgrims_25 : decode cX0_pilgrims 25 = .ok (.invokestatic 74, 3) := dk_184 0 74 (dk_at dksX0_pilgrims_1 2 rfl rfl)
theorem dX0_pilgrims_28 : decode cX0_pilgrims 28 = .ok (.ifCond .eq 12, 3) := dk_153 0 12 (dk_at dksX0_pilgrims_1 5 rfl rfl)
theorem dX0_pilgrims_31 : decode cX0_pilgrims 31 = .ok (.aload_n 0, 1) := dk_42 (dk_at dksX0_pilgrims_1 8 rfl rfl)
theorem dX0_pilgrims_32 : decode cX0_pilgrims 32 = .ok (.iload 4, 2) := dk_21 4 (dk_at dksX0_pilgrims_1 9 rfl rfl)
theorem dX0_pilgrims_34 : decode cX0_pilgrims 34 = .ok (.invokevirtual 93, 3) := dk_182 0 93 (dk_at dksX0_pilgrims_1 11 rfl rfl)
theorem dX0_pilgrims_37 : decode cX0_pilgrims 37 = .ok (.ifCond .ne 5, 3) := dk_154 0 5 (dk_at dksX0_pilgrims_1 14 rfl rfl)
theorem dX0_pilgrims_40 : decode cX0_pilgrims 40 = .ok (.iconst (-1), 1) := dk_2 (dk_at dksX0_pilgrims_1 17 rfl rfl)
theorem dX0_pilgrims_41 : decode cX0_pilgrims 41 = .ok (.ireturn, 1) := dk_172 (dk_at dksX0_pilgrims_1 18 rfl rfl)
theorem dX0_pilgrims_42 : decode cX0_pilgrims 42 = .ok (.aload_n 0, 1) := dk_42 (dk_at dksX0_pilgrims_1 19 rfl rfl)
theorem dX0_pilgrims_43 : decode cX0_pilgrims 43 = .ok (.iload_n 1, 1) := dk_27 (dk_at dksX0_pilgrims_1 20 rfl rfl)
theorem dX0_pilgrims_44 : decode cX0_pilgrims 44 = .ok (.bipush 7, 2) := dk_16 7 (dk_at dksX0_pilgrims_1 21 rfl rfl)
theorem dX0_pilgrims_46 : decode cX0_pilgrims 46 = .ok (.imul, 1) := dk_104 (dk_at dksX0_pilgrims_1 23 rfl rfl)
theorem dX0_pilgrims_47 : decode cX0_pilgrims 47 = .ok (.bipush 15, 2) := dk_16 15 (dk_at dksX0_pilgrims_2 0 rfl rfl)
theorem dX0_pilgrims_49 : decode cX0_pilgrims 49 = .ok (.iadd, 1) := dk_96 (dk_at dksX0_pilgrims_2 2 rfl rfl)
theorem dX0_pilgrims_50 : decode cX0_pilgrims 50 = .ok (.putfield 334, 3) := dk_181 1 78 (dk_at dksX0_pilgrims_2 3 rfl rfl)
theorem dX0_pilgrims_53 : decode cX0_pilgrims 53 = .ok (.iconst 0, 1) := dk_3 (dk_at dksX0_pilgrims_2 6 rfl rfl)
theorem dX0_pilgrims_54 : decode cX0_pilgrims 54 = .ok (.istore 5, 2) := dk_54 5 (dk_at dksX0_pilgrims_2 7 rfl rfl)
theorem dX0_pilgrims_56 : decode cX0_pilgrims 56 = .ok (.iconst 0, 1) := dk_3 (dk_at dksX0_pilgrims_2 9 rfl rfl)
theorem dX0_pilgrims_57 : decode cX0_pilgrims 57 = .ok (.istore 6, 2) := dk_54 6 (dk_at dksX0_pilgrims_2 10 rfl rfl)
theorem dX0_pilgrims_59 : decode cX0_pilgrims 59 = .ok (.iload 6, 2) := dk_21 6 (dk_at dksX0_pilgrims_2 12 rfl rfl)
theorem dX0_pilgrims_61 : decode cX0_pilgrims 61 = .ok (.iload_n 2, 1) := dk_28 (dk_at dksX0_pilgrims_2 14 rfl rfl)
theorem dX0_pilgrims_62 : decode cX0_pilgrims 62 = .ok (.if_icmp .ge 53, 3) := dk_162 0 53 (dk_at dksX0_pilgrims_2 15 rfl rfl)
theorem dX0_pilgrims_65 : decode cX0_pilgrims 65 = .ok (.aload_n 0, 1) := dk_42 (dk_at dksX0_pilgrims_2 18 rfl rfl)
theorem dX0_pilgrims_66 : decode cX0_pilgrims 66 = .ok (.aload_n 0, 1) := dk_42 (dk_at dksX0_pilgrims_2 19 rfl rfl)
theorem dX0_pilgrims_67 : decode cX0_pilgrims 67 = .ok (.getfield 12, 3) := dk_180 0 12 (dk_at dksX0_pilgrims_2 20 rfl rfl)
theorem dX0_pilgrims_70 : decode cX0_pilgrims 70 = .ok (.getfield 71, 3) := dk_180 0 71 (dk_at dksX0_pilgrims_3 0 rfl rfl)
theorem dX0_pilgrims_73 : decode cX0_pilgrims 73 = .ok (.iconst 0, 1) := dk_3 (dk_at dksX0_pilgrims_3 3 rfl rfl)
theorem dX0_pilgrims_74 : decode cX0_pilgrims 74 = .ok (.iaload, 1) := dk_46 (dk_at dksX0_pilgrims_3 4 rfl rfl)
theorem dX0_pilgrims_75 : decode cX0_pilgrims 75 = .ok (.invokevirtual 336, 3) := dk_182 1 80 (dk_at dksX0_pilgrims_3 5 rfl rfl)
theorem dX0_pilgrims_78 : decode cX0_pilgrims 78 = .ok (.istore 7, 2) := dk_54 7 (dk_at dksX0_pilgrims_3 8 rfl rfl)
theorem dX0_pilgrims_80 : decode cX0_pilgrims 80 = .ok (.aload_n 0, 1) := dk_42 (dk_at dksX0_pilgrims_3 10 rfl rfl)
theorem dX0_pilgrims_81 : decode cX0_pilgrims 81 = .ok (.iload 7, 2) := dk_21 7 (dk_at dksX0_pilgrims_3 11 rfl rfl)
theorem dX0_pilgrims_83 : decode cX0_pilgrims 83 = .ok (.invokevirtual 339, 3) := dk_182 1 83 (dk_at dksX0_pilgrims_3 13 rfl rfl)
theorem dX0_pilgrims_86 : decode cX0_pilgrims 86 = .ok (.ifCond .eq 23, 3) := dk_153 0 23 (dk_at dksX0_pilgrims_3 16 rfl rfl)
theorem dX0_pilgrims_89 : decode cX0_pilgrims 89 = .ok (.aload_n 0, 1) := dk_42 (dk_at dksX0_pilgrims_3 19 rfl rfl)
theorem dX0_pilgrims_90 : decode cX0_pilgrims 90 = .ok (.bipush 6, 2) := dk_16 6 (dk_at dksX0_pilgrims_3 20 rfl rfl)
theorem dX0_pilgrims_92 : decode cX0_pilgrims 92 = .ok (.invokevirtual 336, 3) := dk_182 1 80 (dk_at dksX0_pilgrims_4 0 rfl rfl)
theorem dX0_pilgrims_95 : decode cX0_pilgrims 95 = .ok (.iload_n 3, 1) := dk_29 (dk_at dksX0_pilgrims_4 3 rfl rfl)
theorem dX0_pilgrims_96 : decode cX0_pilgrims 96 = .ok (.if_icmp .ge 13, 3) := dk_162 0 13 (dk_at dksX0_pilgrims_4 4 rfl rfl)
theorem dX0_pilgrims_99 : decode cX0_pilgrims 99 = .ok (.iload 7, 2) := dk_21 7 (dk_at dksX0_pilgrims_4 7 rfl rfl)
theorem dX0_pilgrims_101 : decode cX0_pilgrims 101 = .ok (.iload 4, 2) := dk_21 4 (dk_at dksX0_pilgrims_4 9 rfl rfl)
theorem dX0_pilgrims_103 : decode cX0_pilgrims 103 = .ok (.if_icmp .ne 6, 3) := dk_160 0 6 (dk_at dksX0_pilgrims_4 11 rfl rfl)
theorem dX0_pilgrims_106 : decode cX0_pilgrims 106 = .ok (.iinc 5 1, 3) := dk_132 5 1 (dk_at dksX0_pilgrims_4 14 rfl rfl)
theorem dX0_pilgrims_109 : decode cX0_pilgrims 109 = .ok (.iinc 6 1, 3) := dk_132 6 1 (dk_at dksX0_pilgrims_4 17 rfl rfl)
theorem dX0_pilgrims_112 : decode cX0_pilgrims 112 = .ok (.goto (-53), 3) := dk_167 255 203 (dk_at dksX0_pilgrims_4 20 rfl rfl)
theorem dX0_pilgrims_115 : decode cX0_pilgrims 115 = .ok (.iload 5, 2) := dk_21 5 (dk_at dksX0_pilgrims_5 0 rfl rfl)
theorem dX0_pilgrims_117 : decode cX0_pilgrims 117 = .ok (.ireturn, 1) := dk_172 (dk_at dksX0_pilgrims_5 2 rfl rfl)
def dkwX0_draw_1 : List UInt8 := [181, 1, 78, 28, 172]
abbrev dktX0_draw_1 : List UInt8 := dkwX0_draw_1 ++ []
def dkwX0_draw_0 : List UInt8 := [42, 180, 1, 78, 27, 112, 61, 42, 42, 180, 1, 78, 17, 0, 173, 104, 16, 41, 96, 17, 117, 151, 112]
abbrev dktX0_draw_0 : List UInt8 := dkwX0_draw_0 ++ dktX0_draw_1
theorem dksX0_draw_0 : cX0_draw.data.toList.drop 0 = dktX0_draw_0 := by decide +kernel
theorem dksX0_draw_1 : cX0_draw.data.toList.drop 23 = dktX0_draw_1 := dk_seg dksX0_draw_0 23 rfl rfl
theorem dX0_draw_0 : decode cX0_draw 0 = .ok (.aload_n 0, 1) := dk_42 (dk_at dksX0_draw_0 0 rfl rfl)
theorem dX0_draw_1 : decode cX0_draw 1 = .ok (.getfield 334, 3) := dk_180 1 78 (dk_at dksX0_draw_0 1 rfl rfl)
theorem dX0_draw_4 : decode cX0_draw 4 = .ok (.iload_n 1, 1) := dk_27 (dk_at dksX0_draw_0 4 rfl rfl)
theorem dX0_draw_5 : decode cX0_draw 5 = .ok (.irem, 1) := dk_112 (dk_at dksX0_draw_0 5 rfl rfl)
theorem dX0_draw_6 : decode cX0_draw 6 = .ok (.istore_n 2, 1) := dk_61 (dk_at dksX0_draw_0 6 rfl rfl)
theorem dX0_draw_7 : decode cX0_draw 7 = .ok (.aload_n 0, 1) := dk_42 (dk_at dksX0_draw_0 7 rfl rfl)
theorem dX0_draw_8 : decode cX0_draw 8 = .ok (.aload_n 0, 1) := dk_42 (dk_at dksX0_draw_0 8 rfl rfl)
theorem dX0_draw_9 : decode cX0_draw 9 = .ok (.getfield 334, 3) := dk_180 1 78 (dk_at dksX0_draw_0 9 rfl rfl)
theorem dX0_draw_12 : decode cX0_draw 12 = .ok (.sipush 173, 3) := dk_17 0 173 (dk_at dksX0_draw_0 12 rfl rfl)
theorem dX0_draw_15 : decode cX0_draw 15 = .ok (.imul, 1) := dk_104 (dk_at dksX0_draw_0 15 rfl rfl)
theorem dX0_draw_16 : decode cX0_draw 16 = .ok (.bipush 41, 2) := dk_16 41 (dk_at dksX0_draw_0 16 rfl rfl)
theorem dX0_draw_18 : decode cX0_draw 18 = .ok (.iadd, 1) := dk_96 (dk_at dksX0_draw_0 18 rfl rfl)
theorem dX0_draw_19 : decode cX0_draw 19 = .ok (.sipush 30103, 3) := dk_17 117 151 (dk_at dksX0_draw_0 19 rfl rfl)
theorem dX0_draw_22 : decode cX0_draw 22 = .ok (.irem, 1) := dk_112 (dk_at dksX0_draw_0 22 rfl rfl)
theorem dX0_draw_23 : decode cX0_draw 23 = .ok (.putfield 334, 3) := dk_181 1 78 (dk_at dksX0_draw_1 0 rfl rfl)
theorem dX0_draw_26 : decode cX0_draw 26 = .ok (.iload_n 2, 1) := dk_28 (dk_at dksX0_draw_1 3 rfl rfl)
theorem dX0_draw_27 : decode cX0_draw 27 = .ok (.ireturn, 1) := dk_172 (dk_at dksX0_draw_1 4 rfl rfl)
def dkwX0_hasHoly_1 : List UInt8 := [160, 0, 13, 42, 28, 182, 1, 0, 153, 0, 5, 4, 172, 132, 2, 1, 167, 255, 220, 3, 172]
abbrev dktX0_hasHoly_1 : List UInt8 := dkwX0_hasHoly_1 ++ []
def dkwX0_hasHoly_0 : List UInt8 := [3, 61, 28, 42, 180, 0, 12, 180, 0, 71, 4, 46, 162, 0, 29, 42, 28, 6, 182, 0, 149, 27]
abbrev dktX0_hasHoly_0 : List UInt8 := dkwX0_hasHoly_0 ++ dktX0_hasHoly_1
theorem dksX0_hasHoly_0 : cX0_hasHoly.data.toList.drop 0 = dktX0_hasHoly_0 := by decide +kernel
theorem dksX0_hasHoly_1 : cX0_hasHoly.data.toList.drop 22 = dktX0_hasHoly_1 := dk_seg dksX0_hasHoly_0 22 rfl rfl
theorem dX0_hasHoly_0 : decode cX0_hasHoly 0 = .ok (.iconst 0, 1) := dk_3 (dk_at dksX0_hasHoly_0 0 rfl rfl)
theorem dX0_hasHoly_1 : decode cX0_hasHoly 1 = .ok (.istore_n 2, 1) := dk_61 (dk_at dksX0_hasHoly_0 1 rfl rfl)
theorem dX0_hasHoly_2 : decode cX0_hasHoly 2 = .ok (.iload_n 2, 1) := dk_28 (dk_at dksX0_hasHoly_0 2 rfl rfl)
theorem dX0_hasHoly_3 : decode cX0_hasHoly 3 = .ok (.aload_n 0, 1) := dk_42 (dk_at dksX0_hasHoly_0 3 rfl rfl)
theorem dX0_hasHoly_4 : decode cX0_hasHoly 4 = .ok (.getfield 12, 3) := dk_180 0 12 (dk_at dksX0_hasHoly_0 4 rfl rfl)
theorem dX0_hasHoly_7 : decode cX0_hasHoly 7 = .ok (.getfield 71, 3) := dk_180 0 71 (dk_at dksX0_hasHoly_0 7 rfl rfl)
theorem dX0_hasHoly_10 : decode cX0_hasHoly 10 = .ok (.iconst 1, 1) := dk_4 (dk_at dksX0_hasHoly_0 10 rfl rfl)
theorem dX0_hasHoly_11 : decode cX0_hasHoly 11 = .ok (.iaload, 1) := dk_46 (dk_at dksX0_hasHoly_0 11 rfl rfl)
theorem dX0_hasHoly_12 : decode cX0_hasHoly 12 = .ok (.if_icmp .ge 29, 3) := dk_162 0 29 (dk_at dksX0_hasHoly_0 12 rfl rfl)
theorem dX0_hasHoly_15 : decode cX0_hasHoly 15 = .ok (.aload_n 0, 1) := dk_42 (dk_at dksX0_hasHoly_0 15 rfl rfl)
theorem dX0_hasHoly_16 : decode cX0_hasHoly 16 = .ok (.iload_n 2, 1) := dk_28 (dk_at dksX0_hasHoly_0 16 rfl rfl)
theorem dX0_hasHoly_17 : decode cX0_hasHoly 17 = .ok (.iconst 3, 1) := dk_6 (dk_at dksX0_hasHoly_0 17 rfl rfl)
theorem dX0_hasHoly_18 : decode cX0_hasHoly 18 = .ok (.invokevirtual 149, 3) := dk_182 0 149 (dk_at dksX0_hasHoly_0 18 rfl rfl)
theorem dX0_hasHoly_21 : decode cX0_hasHoly 21 = .ok (.iload_n 1, 1) := dk_27 (dk_at dksX0_hasHoly_0 21 rfl rfl)
theorem dX0_hasHoly_22 : decode cX0_hasHoly 22 = .ok (.if_icmp .ne 13, 3) := dk_160 0 13 (dk_at dksX0_hasHoly_1 0 rfl rfl)
theorem dX0_hasHoly_25 : decode cX0_hasHoly 25 = .ok (.aload_n 0, 1) := dk_42 (dk_at dksX0_hasHoly_1 3 rfl rfl)
theorem dX0_hasHoly_26 : decode cX0_hasHoly 26 = .ok (.iload_n 2, 1) := dk_28 (dk_at dksX0_hasHoly_1 4 rfl rfl)
theorem dX0_hasHoly_27 : decode cX0_hasHoly 27 = .ok (.invokevirtual 256, 3) := dk_182 1 0 (dk_at dksX0_hasHoly_1 5 rfl rfl)
theorem dX0_hasHoly_30 : decode cX0_hasHoly 30 = .ok (.ifCond .eq 5, 3) := dk_153 0 5 (dk_at dksX0_hasHoly_1 8 rfl rfl)
theorem dX0_hasHoly_33 : decode cX0_hasHoly 33 = .ok (.iconst 1, 1) := dk_4 (dk_at dksX0_hasHoly_1 11 rfl rfl)
theorem dX0_hasHoly_34 : decode cX0_hasHoly 34 = .ok (.ireturn, 1) := dk_172 (dk_at dksX0_hasHoly_1 12 rfl rfl)
theorem dX0_hasHoly_35 : decode cX0_hasHoly 35 = .ok (.iinc 2 1, 3) := dk_132 2 1 (dk_at dksX0_hasHoly_1 13 rfl rfl)
theorem dX0_hasHoly_38 : decode cX0_hasHoly 38 = .ok (.goto (-36), 3) := dk_167 255 220 (dk_at dksX0_hasHoly_1 16 rfl rfl)
theorem dX0_hasHoly_41 : decode cX0_hasHoly 41 = .ok (.iconst 0, 1) := dk_3 (dk_at dksX0_hasHoly_1 19 rfl rfl)
theorem dX0_hasHoly_42 : decode cX0_hasHoly 42 = .ok (.ireturn, 1) := dk_172 (dk_at dksX0_hasHoly_1 20 rfl rfl)
def dkwX0_image_0 : List UInt8 := [42, 180, 0, 16, 42, 180, 0, 12, 182, 0, 67, 42, 182, 0, 156, 172]
abbrev dktX0_image_0 : List UInt8 := dkwX0_image_0 ++ []
theorem dksX0_image_0 : cX0_image.data.toList.drop 0 = dktX0_image_0 := by decide +kernel
theorem dX0_image_0 : decode cX0_image 0 = .ok (.aload_n 0, 1) := dk_42 (dk_at dksX0_image_0 0 rfl rfl)
theorem dX0_image_1 : decode cX0_image 1 = .ok (.getfield 16, 3) := dk_180 0 16 (dk_at dksX0_image_0 1 rfl rfl)
theorem dX0_image_4 : decode cX0_image 4 = .ok (.aload_n 0, 1) := dk_42 (dk_at dksX0_image_0 4 rfl rfl)
theorem dX0_image_5 : decode cX0_image 5 = .ok (.getfield 12, 3) := dk_180 0 12 (dk_at dksX0_image_0 5 rfl rfl)
theorem dX0_image_8 : decode cX0_image 8 = .ok (.invokevirtual 67, 3) := dk_182 0 67 (dk_at dksX0_image_0 8 rfl rfl)
theorem dX0_image_11 : decode cX0_image 11 = .ok (.aload_n 0, 1) := dk_42 (dk_at dksX0_image_0 11 rfl rfl)
theorem dX0_image_12 : decode cX0_image 12 = .ok (.invokevirtual 156, 3) := dk_182 0 156 (dk_at dksX0_image_0 12 rfl rfl)
theorem dX0_image_15 : decode cX0_image 15 = .ok (.ireturn, 1) := dk_172 (dk_at dksX0_image_0 15 rfl rfl)
def dkwX0_back_0 : List UInt8 := [42, 180, 0, 12, 42, 180, 0, 16, 182, 0, 67, 42, 182, 0, 156, 172]
abbrev dktX0_back_0 : List UInt8 := dkwX0_back_0 ++ []
theorem dksX0_back_0 : cX0_back.data.toList.drop 0 = dktX0_back_0 := by decide +kernel
theorem dX0_back_0 : decode cX0_back 0 = .ok (.aload_n 0, 1) := dk_42 (dk_at dksX0_back_0 0 rfl rfl)
theorem dX0_back_1 : decode cX0_back 1 = .ok (.getfield 12, 3) := dk_180 0 12 (dk_at dksX0_back_0 1 rfl rfl)
theorem dX0_back_4 : decode cX0_back 4 = .ok (.aload_n 0, 1) := dk_42 (dk_at dksX0_back_0 4 rfl rfl)
theorem dX0_back_5 : decode cX0_back 5 = .ok (.getfield 16, 3) := dk_180 0 16 (dk_at dksX0_back_0 5 rfl rfl)
theorem dX0_back_8 : decode cX0_back 8 = .ok (.invokevirtual 67, 3) := dk_182 0 67 (dk_at dksX0_back_0 8 rfl rfl)
theorem dX0_back_11 : decode cX0_back 11 = .ok (.aload_n 0, 1) := dk_42 (dk_at dksX0_back_0 11 rfl rfl)
theorem dX0_back_12 : decode cX0_back 12 = .ok (.invokevirtual 156, 3) := dk_182 0 156 (dk_at dksX0_back_0 12 rfl rfl)
theorem dX0_back_15 : decode cX0_back 15 = .ok (.ireturn, 1) := dk_172 (dk_at dksX0_back_0 15 rfl rfl)
def dkwX0_about_8 : List UInt8 := [167, 0, 5, 16, 254, 172]
abbrev dktX0_about_8 : List UInt8 := dkwX0_about_8 ++ []
def dkwX0_about_7 : List UInt8 := [46, 184, 0, 166, 172, 42, 27, 16, 20, 100, 182, 0, 93, 153, 0, 14, 42, 27, 16, 20, 100, 182, 1, 86]
abbrev dktX0_about_7 : List UInt8 := dkwX0_about_7 ++ dktX0_about_8
def dkwX0_about_6 : List UInt8 := [27, 16, 10, 100, 182, 0, 93, 153, 0, 22, 42, 180, 0, 12, 180, 0, 78, 16, 80, 27, 96, 16, 10, 100]
abbrev dktX0_about_6 : List UInt8 := dkwX0_about_6 ++ dktX0_about_7
def dkwX0_about_5 : List UInt8 := [180, 0, 71, 16, 6, 46, 172, 42, 180, 0, 12, 180, 0, 71, 16, 7, 46, 172, 42, 180, 0, 120, 172, 42]
abbrev dktX0_about_5 : List UInt8 := dkwX0_about_5 ++ dktX0_about_6
def dkwX0_about_4 : List UInt8 := [180, 0, 12, 180, 0, 71, 7, 46, 172, 42, 180, 0, 12, 180, 0, 71, 8, 46, 172, 42, 180, 0, 12]
abbrev dktX0_about_4 : List UInt8 := dkwX0_about_4 ++ dktX0_about_5
def dkwX0_about_3 : List UInt8 := [172, 42, 180, 0, 12, 180, 0, 71, 5, 46, 172, 42, 180, 0, 12, 180, 0, 71, 6, 46, 172, 42]
abbrev dktX0_about_3 : List UInt8 := dkwX0_about_3 ++ dktX0_about_4
def dkwX0_about_2 : List UInt8 := [42, 180, 0, 12, 180, 0, 71, 3, 46, 172, 42, 180, 0, 12, 180, 0, 71, 4, 46, 172, 42, 182, 0, 156]
abbrev dktX0_about_2 : List UInt8 := dkwX0_about_2 ++ dktX0_about_3
def dkwX0_about_1 : List UInt8 := [170, 0, 0, 0, 0, 0, 147, 0, 0, 0, 0, 0, 0, 0, 9, 0, 0, 0, 55, 0, 0, 0, 65, 0, 0, 0, 75, 0, 0, 0, 80, 0, 0, 0, 90, 0, 0, 0, 100, 0, 0, 0, 110, 0, 0, 0, 120, 0, 0, 0, 131, 0, 0, 0, 142]
abbrev dktX0_about_1 : List UInt8 := dkwX0_about_1 ++ dktX0_about_2
def dkwX0_about_0 : List UInt8 := [27]
abbrev dktX0_about_0 : List UInt8 := dkwX0_about_0 ++ dktX0_about_1
theorem dksX0_about_0 : cX0_about.data.toList.drop 0 = dktX0_about_0 := by decide +kernel
theorem dksX0_about_1 : cX0_about.data.toList.drop 1 = dktX0_about_1 := dk_seg dksX0_about_0 1 rfl rfl
theorem dksX0_about_2 : cX0_about.data.toList.drop 56 = dktX0_about_2 := dk_seg dksX0_about_1 55 rfl rfl
theorem dksX0_about_3 : cX0_about.data.toList.drop 80 = dktX0_about_3 := dk_seg dksX0_about_2 24 rfl rfl
theorem dksX0_about_4 : cX0_about.data.toList.drop 102 = dktX0_about_4 := dk_seg dksX0_about_3 22 rfl rfl
theorem dksX0_about_5 : cX0_about.data.toList.drop 125 = dktX0_about_5 := dk_seg dksX0_about_4 23 rfl rfl
theorem dksX0_about_6 : cX0_about.data.toList.drop 149 = dktX0_about_6 := dk_seg dksX0_about_5 24 rfl rfl
theorem dksX0_about_7 : cX0_about.data.toList.drop 173 = dktX0_about_7 := dk_seg dksX0_about_6 24 rfl rfl
theorem dksX0_about_8 : cX0_about.data.toList.drop 197 = dktX0_about_8 := dk_seg dksX0_about_7 24 rfl rfl
theorem dX0_about_0 : decode cX0_about 0 = .ok (.iload_n 1, 1) := dk_27 (dk_at dksX0_about_0 0 rfl rfl)
theorem dX0_about_1 : decode cX0_about 1 = .ok (.tableswitch 147 0 9 #[55, 65, 75, 80, 90, 100, 110, 120, 131, 142], 55) := by decide +kernel
theorem dX0_about_56 : decode cX0_about 56 = .ok (.aload_n 0, 1) := dk_42 (dk_at dksX0_about_2 0 rfl rfl)
theorem dX0_about_57 : decode cX0_about 57 = .ok (.getfield 12, 3) := dk_180 0 12 (dk_at dksX0_about_2 1 rfl rfl)
theorem dX0_about_60 : decode cX0_about 60 = .ok (.getfield 71, 3) := dk_180 0 71 (dk_at dksX0_about_2 4 rfl rfl)
theorem dX0_about_63 : decode cX0_about 63 = .ok (.iconst 0, 1) := dk_3 (dk_at dksX0_about_2 7 rfl rfl)
theorem dX0_about_64 : decode cX0_about 64 = .ok (.iaload, 1) := dk_46 (dk_at dksX0_about_2 8 rfl rfl)
theorem dX0_about_65 : decode cX0_about 65 = .ok (.ireturn, 1) := dk_172 (dk_at dksX0_about_2 9 rfl rfl)
theorem dX0_about_66 : decode cX0_about 66 = .ok (.aload_n 0, 1) := dk_42 (dk_at dksX0_about_2 10 rfl rfl)
theorem dX0_about_67 : decode cX0_about 67 = .ok (.getfield 12, 3) := dk_180 0 12 (dk_at dksX0_about_2 11 rfl rfl)
theorem dX0_about_70 : decode cX0_about 70 = .ok (.getfield 71, 3) := dk_180 0 71 (dk_at dksX0_about_2 14 rfl rfl)
theorem dX0_about_73 : decode cX0_about 73 = .ok (.iconst 1, 1) := dk_4 (dk_at dksX0_about_2 17 rfl rfl)
theorem dX0_about_74 : decode cX0_about 74 = .ok (.iaload, 1) := dk_46 (dk_at dksX0_about_2 18 rfl rfl)
theorem dX0_about_75 : decode cX0_about 75 = .ok (.ireturn, 1) := dk_172 (dk_at dksX0_about_2 19 rfl rfl)
theorem dX0_about_76 : decode cX0_about 76 = .ok (.aload_n 0, 1) := dk_42 (dk_at dksX0_about_2 20 rfl rfl)
theorem dX0_about_77 : decode cX0_about 77 = .ok (.invokevirtual 156, 3) := dk_182 0 156 (dk_at dksX0_about_2 21 rfl rfl)
theorem dX0_about_80 : decode cX0_about 80 = .ok (.ireturn, 1) := dk_172 (dk_at dksX0_about_3 0 rfl rfl)
theorem dX0_about_81 : decode cX0_about 81 = .ok (.aload_n 0, 1) := dk_42 (dk_at dksX0_about_3 1 rfl rfl)
theorem dX0_about_82 : decode cX0_about 82 = .ok (.getfield 12, 3) := dk_180 0 12 (dk_at dksX0_about_3 2 rfl rfl)
theorem dX0_about_85 : decode cX0_about 85 = .ok (.getfield 71, 3) := dk_180 0 71 (dk_at dksX0_about_3 5 rfl rfl)
theorem dX0_about_88 : decode cX0_about 88 = .ok (.iconst 2, 1) := dk_5 (dk_at dksX0_about_3 8 rfl rfl)
theorem dX0_about_89 : decode cX0_about 89 = .ok (.iaload, 1) := dk_46 (dk_at dksX0_about_3 9 rfl rfl)
theorem dX0_about_90 : decode cX0_about 90 = .ok (.ireturn, 1) := dk_172 (dk_at dksX0_about_3 10 rfl rfl)
theorem dX0_about_91 : decode cX0_about 91 = .ok (.aload_n 0, 1) := dk_42 (dk_at dksX0_about_3 11 rfl rfl)
theorem dX0_about_92 : decode cX0_about 92 = .ok (.getfield 12, 3) := dk_180 0 12 (dk_at dksX0_about_3 12 rfl rfl)
theorem dX0_about_95 : decode cX0_about 95 = .ok (.getfield 71, 3) := dk_180 0 71 (dk_at dksX0_about_3 15 rfl rfl)
theorem dX0_about_98 : decode cX0_about 98 = .ok (.iconst 3, 1) := dk_6 (dk_at dksX0_about_3 18 rfl rfl)
theorem dX0_about_99 : decode cX0_about 99 = .ok (.iaload, 1) := dk_46 (dk_at dksX0_about_3 19 rfl rfl)
theorem dX0_about_100 : decode cX0_about 100 = .ok (.ireturn, 1) := dk_172 (dk_at dksX0_about_3 20 rfl rfl)
theorem dX0_about_101 : decode cX0_about 101 = .ok (.aload_n 0, 1) := dk_42 (dk_at dksX0_about_3 21 rfl rfl)
theorem dX0_about_102 : decode cX0_about 102 = .ok (.getfield 12, 3) := dk_180 0 12 (dk_at dksX0_about_4 0 rfl rfl)
theorem dX0_about_105 : decode cX0_about 105 = .ok (.getfield 71, 3) := dk_180 0 71 (dk_at dksX0_about_4 3 rfl rfl)
theorem dX0_about_108 : decode cX0_about 108 = .ok (.iconst 4, 1) := dk_7 (dk_at dksX0_about_4 6 rfl rfl)
theorem dX0_about_109 : decode cX0_about 109 = .ok (.iaload, 1) := dk_46 (dk_at dksX0_about_4 7 rfl rfl)
theorem dX0_about_110 : decode cX0_about 110 = .ok (.ireturn, 1) := dk_172 (dk_at dksX0_about_4 8 rfl rfl)
theorem dX0_about_111 : decode cX0_about 111 = .ok (.aload_n 0, 1) := dk_42 (dk_at dksX0_about_4 9 rfl rfl)
theorem dX0_about_112 : decode cX0_about 112 = .ok (.getfield 12, 3) := dk_180 0 12 (dk_at dksX0_about_4 10 rfl rfl)
theorem dX0_about_115 : decode cX0_about 115 = .ok (.getfield 71, 3) := dk_180 0 71 (dk_at dksX0_about_4 13 rfl rfl)
theorem dX0_about_118 : decode cX0_about 118 = .ok (.iconst 5, 1) := dk_8 (dk_at dksX0_about_4 16 rfl rfl)
theorem dX0_about_119 : decode cX0_about 119 = .ok (.iaload, 1) := dk_46 (dk_at dksX0_about_4 17 rfl rfl)
theorem dX0_about_120 : decode cX0_about 120 = .ok (.ireturn, 1) := dk_172 (dk_at dksX0_about_4 18 rfl rfl)
theorem dX0_about_121 : decode cX0_about 121 = .ok (.aload_n 0, 1) := dk_42 (dk_at dksX0_about_4 19 rfl rfl)
theorem dX0_about_122 : decode cX0_about 122 = .ok (.getfield 12, 3) := dk_180 0 12 (dk_at dksX0_about_4 20 rfl rfl)
theorem dX0_about_125 : decode cX0_about 125 = .ok (.getfield 71, 3) := dk_180 0 71 (dk_at dksX0_about_5 0 rfl rfl)
theorem dX0_about_128 : decode cX0_about 128 = .ok (.bipush 6, 2) := dk_16 6 (dk_at dksX0_about_5 3 rfl rfl)
theorem dX0_about_130 : decode cX0_about 130 = .ok (.iaload, 1) := dk_46 (dk_at dksX0_about_5 5 rfl rfl)
theorem dX0_about_131 : decode cX0_about 131 = .ok (.ireturn, 1) := dk_172 (dk_at dksX0_about_5 6 rfl rfl)
theorem dX0_about_132 : decode cX0_about 132 = .ok (.aload_n 0, 1) := dk_42 (dk_at dksX0_about_5 7 rfl rfl)
theorem dX0_about_133 : decode cX0_about 133 = .ok (.getfield 12, 3) := dk_180 0 12 (dk_at dksX0_about_5 8 rfl rfl)
theorem dX0_about_136 : decode cX0_about 136 = .ok (.getfield 71, 3) := dk_180 0 71 (dk_at dksX0_about_5 11 rfl rfl)
theorem dX0_about_139 : decode cX0_about 139 = .ok (.bipush 7, 2) := dk_16 7 (dk_at dksX0_about_5 14 rfl rfl)
theorem dX0_about_141 : decode cX0_about 141 = .ok (.iaload, 1) := dk_46 (dk_at dksX0_about_5 16 rfl rfl)
theorem dX0_about_142 : decode cX0_about 142 = .ok (.ireturn, 1) := dk_172 (dk_at dksX0_about_5 17 rfl rfl)
theorem dX0_about_143 : decode cX0_about 143 = .ok (.aload_n 0, 1) := dk_42 (dk_at dksX0_about_5 18 rfl rfl)
theorem dX0_about_144 : decode cX0_about 144 = .ok (.getfield 120, 3) := dk_180 0 120 (dk_at dksX0_about_5 19 rfl rfl)
theorem dX0_about_147 : decode cX0_about 147 = .ok (.ireturn, 1) := dk_172 (dk_at dksX0_about_5 22 rfl rfl)
theorem dX0_about_148 : decode cX0_about 148 = .ok (.aload_n 0, 1) := dk_42 (dk_at dksX0_about_5 23 rfl rfl)
theorem dX0_about_149 : decode cX0_about 149 = .ok (.iload_n 1, 1) := dk_27 (dk_at dksX0_about_6 0 rfl rfl)
theorem dX0_about_150 : decode cX0_about 150 = .ok (.bipush 10, 2) := dk_16 10 (dk_at dksX0_about_6 1 rfl rfl)
theorem dX0_about_152 : decode cX0_about 152 = .ok (.isub, 1) := dk_100 (dk_at dksX0_about_6 3 rfl rfl)
theorem dX0_about_153 : decode cX0_about 153 = .ok (.invokevirtual 93, 3) := dk_182 0 93 (dk_at dksX0_about_6 4 rfl rfl)
theorem dX0_about_156 : decode cX0_about 156 = .ok (.ifCond .eq 22, 3) := dk_153 0 22 (dk_at dksX0_about_6 7 rfl rfl)
theorem dX0_about_159 : decode cX0_about 159 = .ok (.aload_n 0, 1) := dk_42 (dk_at dksX0_about_6 10 rfl rfl)
theorem dX0_about_160 : decode cX0_about 160 = .ok (.getfield 12, 3) := dk_180 0 12 (dk_at dksX0_about_6 11 rfl rfl)
theorem dX0_about_163 : decode cX0_about 163 = .ok (.getfield 78, 3) := dk_180 0 78 (dk_at dksX0_about_6 14 rfl rfl)
theorem dX0_about_166 : decode cX0_about 166 = .ok (.bipush 80, 2) := dk_16 80 (dk_at dksX0_about_6 17 rfl rfl)
theorem dX0_about_168 : decode cX0_about 168 = .ok (.iload_n 1, 1) := dk_27 (dk_at dksX0_about_6 19 rfl rfl)
theorem dX0_about_169 : decode cX0_about 169 = .ok (.iadd, 1) := dk_96 (dk_at dksX0_about_6 20 rfl rfl)
theorem dX0_about_170 : decode cX0_about 170 = .ok (.bipush 10, 2) := dk_16 10 (dk_at dksX0_about_6 21 rfl rfl)
theorem dX0_about_172 : decode cX0_about 172 = .ok (.isub, 1) := dk_100 (dk_at dksX0_about_6 23 rfl rfl)
theorem dX0_about_173 : decode cX0_about 173 = .ok (.iaload, 1) := dk_46 (dk_at dksX0_about_7 0 rfl rfl)
theorem dX0_about_174 : decode cX0_about 174 = .ok (.invokestatic 166, 3) := dk_184 0 166 (dk_at dksX0_about_7 1 rfl rfl)
theorem dX0_about_177 : decode cX0_about 177 = .ok (.ireturn, 1) := dk_172 (dk_at dksX0_about_7 4 rfl rfl)
theorem dX0_about_178 : decode cX0_about 178 = .ok (.aload_n 0, 1) := dk_42 (dk_at dksX0_about_7 5 rfl rfl)
theorem dX0_about_179 : decode cX0_about 179 = .ok (.iload_n 1, 1) := dk_27 (dk_at dksX0_about_7 6 rfl rfl)
theorem dX0_about_180 : decode cX0_about 180 = .ok (.bipush 20, 2) := dk_16 20 (dk_at dksX0_about_7 7 rfl rfl)
theorem dX0_about_182 : decode cX0_about 182 = .ok (.isub, 1) := dk_100 (dk_at dksX0_about_7 9 rfl rfl)
theorem dX0_about_183 : decode cX0_about 183 = .ok (.invokevirtual 93, 3) := dk_182 0 93 (dk_at dksX0_about_7 10 rfl rfl)
theorem dX0_about_186 : decode cX0_about 186 = .ok (.ifCond .eq 14, 3) := dk_153 0 14 (dk_at dksX0_about_7 13 rfl rfl)
theorem dX0_about_189 : decode cX0_about 189 = .ok (.aload_n 0, 1) := dk_42 (dk_at dksX0_about_7 16 rfl rfl)
theorem dX0_about_190 : decode cX0_about 190 = .ok (.iload_n 1, 1) := dk_27 (dk_at dksX0_about_7 17 rfl rfl)
theorem dX0_about_191 : decode cX0_about 191 = .ok (.bipush 20, 2) := dk_16 20 (dk_at dksX0_about_7 18 rfl rfl)
theorem dX0_about_193 : decode cX0_about 193 = .ok (.isub, 1) := dk_100 (dk_at dksX0_about_7 20 rfl rfl)
theorem dX0_about_194 : decode cX0_about 194 = .ok (.invokevirtual 342, 3) := dk_182 1 86 (dk_at dksX0_about_7 21 rfl rfl)
theorem dX0_about_197 : decode cX0_about 197 = .ok (.goto 5, 3) := dk_167 0 5 (dk_at dksX0_about_8 0 rfl rfl)
theorem dX0_about_200 : decode cX0_about 200 = .ok (.bipush (-2), 2) := dk_16 254 (dk_at dksX0_about_8 3 rfl rfl)
theorem dX0_about_202 : decode cX0_about 202 = .ok (.ireturn, 1) := dk_172 (dk_at dksX0_about_8 5 rfl rfl)
def dkwX0_atTown_1 : List UInt8 := [27, 160, 0, 7, 4, 167, 0, 4, 3, 96, 61, 132, 3, 1, 167, 255, 222, 28, 172]
abbrev dktX0_atTown_1 : List UInt8 := dkwX0_atTown_1 ++ []
def dkwX0_atTown_0 : List UInt8 := [3, 61, 3, 62, 29, 42, 180, 0, 12, 180, 0, 71, 4, 46, 162, 0, 27, 28, 42, 29, 6, 182, 0, 149]
abbrev dktX0_atTown_0 : List UInt8 := dkwX0_atTown_0 ++ dktX0_atTown_1
theorem dksX0_atTown_0 : cX0_atTown.data.toList.drop 0 = dktX0_atTown_0 := by decide +kernel
theorem dksX0_atTown_1 : cX0_atTown.data.toList.drop 24 = dktX0_atTown_1 := dk_seg dksX0_atTown_0 24 rfl rfl
theorem dX0_atTown_0 : decode cX0_atTown 0 = .ok (.iconst 0, 1) := dk_3 (dk_at dksX0_atTown_0 0 rfl rfl)
theorem dX0_atTown_1 : decode cX0_atTown 1 = .ok (.istore_n 2, 1) := dk_61 (dk_at dksX0_atTown_0 1 rfl rfl)
theorem dX0_atTown_2 : decode cX0_atTown 2 = .ok (.iconst 0, 1) := dk_3 (dk_at dksX0_atTown_0 2 rfl rfl)
theorem dX0_atTown_3 : decode cX0_atTown 3 = .ok (.istore_n 3, 1) := dk_62 (dk_at dksX0_atTown_0 3 rfl rfl)
theorem dX0_atTown_4 : decode cX0_atTown 4 = .ok (.iload_n 3, 1) := dk_29 (dk_at dksX0_atTown_0 4 rfl rfl)
theorem dX0_atTown_5 : decode cX0_atTown 5 = .ok (.aload_n 0, 1) := dk_42 (dk_at dksX0_atTown_0 5 rfl rfl)
theorem dX0_atTown_6 : decode cX0_atTown 6 = .ok (.getfield 12, 3) := dk_180 0 12 (dk_at dksX0_atTown_0 6 rfl rfl)
theorem dX0_atTown_9 : decode cX0_atTown 9 = .ok (.getfield 71, 3) := dk_180 0 71 (dk_at dksX0_atTown_0 9 rfl rfl)
theorem dX0_atTown_12 : decode cX0_atTown 12 = .ok (.iconst 1, 1) := dk_4 (dk_at dksX0_atTown_0 12 rfl rfl)
theorem dX0_atTown_13 : decode cX0_atTown 13 = .ok (.iaload, 1) := dk_46 (dk_at dksX0_atTown_0 13 rfl rfl)
theorem dX0_atTown_14 : decode cX0_atTown 14 = .ok (.if_icmp .ge 27, 3) := dk_162 0 27 (dk_at dksX0_atTown_0 14 rfl rfl)
theorem dX0_atTown_17 : decode cX0_atTown 17 = .ok (.iload_n 2, 1) := dk_28 (dk_at dksX0_atTown_0 17 rfl rfl)
theorem dX0_atTown_18 : decode cX0_atTown 18 = .ok (.aload_n 0, 1) := dk_42 (dk_at dksX0_atTown_0 18 rfl rfl)
theorem dX0_atTown_19 : decode cX0_atTown 19 = .ok (.iload_n 3, 1) := dk_29 (dk_at dksX0_atTown_0 19 rfl rfl)
theorem dX0_atTown_20 : decode cX0_atTown 20 = .ok (.iconst 3, 1) := dk_6 (dk_at dksX0_atTown_0 20 rfl rfl)
theorem dX0_atTown_21 : decode cX0_atTown 21 = .ok (.invokevirtual 149, 3) := dk_182 0 149 (dk_at dksX0_atTown_0 21 rfl rfl)
theorem dX0_atTown_24 : decode cX0_atTown 24 = .ok (.iload_n 1, 1) := dk_27 (dk_at dksX0_atTown_1 0 rfl rfl)
theorem dX0_atTown_25 : decode cX0_atTown 25 = .ok (.if_icmp .ne 7, 3) := dk_160 0 7 (dk_at dksX0_atTown_1 1 rfl rfl)
theorem dX0_atTown_28 : decode cX0_atTown 28 = .ok (.iconst 1, 1) := dk_4 (dk_at dksX0_atTown_1 4 rfl rfl)
theorem dX0_atTown_29 : decode cX0_atTown 29 = .ok (.goto 4, 3) := dk_167 0 4 (dk_at dksX0_atTown_1 5 rfl rfl)
theorem dX0_atTown_32 : decode cX0_atTown 32 = .ok (.iconst 0, 1) := dk_3 (dk_at dksX0_atTown_1 8 rfl rfl)
theorem dX0_atTown_33 : decode cX0_atTown 33 = .ok (.iadd, 1) := dk_96 (dk_at dksX0_atTown_1 9 rfl rfl)
theorem dX0_atTown_34 : decode cX0_atTown 34 = .ok (.istore_n 2, 1) := dk_61 (dk_at dksX0_atTown_1 10 rfl rfl)
theorem dX0_atTown_35 : decode cX0_atTown 35 = .ok (.iinc 3 1, 3) := dk_132 3 1 (dk_at dksX0_atTown_1 11 rfl rfl)
theorem dX0_atTown_38 : decode cX0_atTown 38 = .ok (.goto (-34), 3) := dk_167 255 222 (dk_at dksX0_atTown_1 14 rfl rfl)
theorem dX0_atTown_41 : decode cX0_atTown 41 = .ok (.iload_n 2, 1) := dk_28 (dk_at dksX0_atTown_1 17 rfl rfl)
theorem dX0_atTown_42 : decode cX0_atTown 42 = .ok (.ireturn, 1) := dk_172 (dk_at dksX0_atTown_1 18 rfl rfl)
