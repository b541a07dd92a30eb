set_option maxRecDepth 100000
def dkwX0_init_6 : List UInt8 := [181, 0, 64, 42, 180, 0, 16, 42, 180, 0, 12, 182, 0, 67, 177]
abbrev dktX0_init_6 : List UInt8 := dkwX0_init_6 ++ []
def dkwX0_init_5 : List UInt8 := [181, 0, 55, 42, 16, 8, 188, 10, 181, 0, 58, 42, 16, 8, 188, 10, 181, 0, 61, 42, 16, 8, 188, 10]
abbrev dktX0_init_5 : List UInt8 := dkwX0_init_5 ++ dktX0_init_6
def dkwX0_init_4 : List UInt8 := [16, 13, 17, 16, 0, 197, 0, 40, 2, 181, 0, 50, 42, 16, 13, 17, 16, 0, 197, 0, 53, 2]
abbrev dktX0_init_4 : List UInt8 := dkwX0_init_4 ++ dktX0_init_5
def dkwX0_init_3 : List UInt8 := [16, 12, 16, 20, 197, 0, 40, 2, 181, 0, 42, 42, 16, 12, 16, 12, 197, 0, 45, 2, 181, 0, 47, 42]
abbrev dktX0_init_3 : List UInt8 := dkwX0_init_3 ++ dktX0_init_4
def dkwX0_init_2 : List UInt8 := [16, 8, 188, 10, 181, 0, 30, 42, 16, 12, 188, 10, 181, 0, 34, 42, 16, 12, 188, 10, 181, 0, 37, 42]
abbrev dktX0_init_2 : List UInt8 := dkwX0_init_2 ++ dktX0_init_3
def dkwX0_init_1 : List UInt8 := [181, 0, 16, 42, 17, 1, 44, 188, 8, 181, 0, 19, 42, 2, 181, 0, 23, 42, 2, 181, 0, 27, 42]
abbrev dktX0_init_1 : List UInt8 := dkwX0_init_1 ++ dktX0_init_2
def dkwX0_init_0 : List UInt8 := [42, 183, 0, 3, 42, 187, 0, 9, 89, 183, 0, 11, 181, 0, 12, 42, 187, 0, 9, 89, 183, 0, 11]
abbrev dktX0_init_0 : List UInt8 := dkwX0_init_0 ++ dktX0_init_1
theorem dksX0_init_0 : cX0_init.data.toList.drop 0 = dktX0_init_0 := by decide +kernel
theorem dksX0_init_1 : cX0_init.data.toList.drop 23 = dktX0_init_1 := dk_seg dksX0_init_0 23 rfl rfl
theorem dksX0_init_2 : cX0_init.data.toList.drop 46 = dktX0_init_2 := dk_seg dksX0_init_1 23 rfl rfl
theorem dksX0_init_3 : cX0_init.data.toList.drop 70 = dktX0_init_3 := dk_seg dksX0_init_2 24 rfl rfl
theorem dksX0_init_4 : cX0_init.data.toList.drop 94 = dktX0_init_4 := dk_seg dksX0_init_3 24 rfl rfl
theorem dksX0_init_5 : cX0_init.data.toList.drop 116 = dktX0_init_5 := dk_seg dksX0_init_4 22 rfl rfl
theorem dksX0_init_6 : cX0_init.data.toList.drop 140 = dktX0_init_6 := dk_seg dksX0_init_5 24 rfl rfl
theorem dX0_init_0 : decode cX0_init 0 = .ok (.aload_n 0, 1) := dk_42 (dk_at dksX0_init_0 0 rfl rfl)
theorem dX0_init_1 : decode cX0_init 1 = .ok (.invokespecial 3, 3) := dk_183 0 3 (dk_at dksX0_init_0 1 rfl rfl)
theorem dX0_init_4 : decode cX0_init 4 = .ok (.aload_n 0, 1) := dk_42 (dk_at dksX0_init_0 4 rfl rfl)
theorem dX0_init_5 : decode cX0_init 5 = .ok (.new 9, 3) := dk_187 0 9 (dk_at dksX0_init_0 5 rfl rfl)
theorem dX0_init_8 : decode cX0_init 8 = .ok (.dup, 1) := dk_89 (dk_at dksX0_init_0 8 rfl rfl)
theorem dX0_init_9 : decode cX0_init 9 = .ok (.invokespecial 11, 3) := dk_183 0 11 (dk_at dksX0_init_0 9 rfl rfl)
theorem dX0_init_12 : decode cX0_init 12 = .ok (.putfield 12, 3) := dk_181 0 12 (dk_at dksX0_init_0 12 rfl rfl)
theorem dX0_init_15 : decode cX0_init 15 = .ok (.aload_n 0, 1) := dk_42 (dk_at dksX0_init_0 15 rfl rfl)
theorem dX0_init_16 : decode cX0_init 16 = .ok (.new 9, 3) := dk_187 0 9 (dk_at dksX0_init_0 16 rfl rfl)
theorem dX0_init_19 : decode cX0_init 19 = .ok (.dup, 1) := dk_89 (dk_at dksX0_init_0 19 rfl rfl)
theorem dX0_init_20 : decode cX0_init 20 = .ok (.invokespecial 11, 3) := dk_183 0 11 (dk_at dksX0_init_0 20 rfl rfl)
theorem dX0_init_23 : decode cX0_init 23 = .ok (.putfield 16, 3) := dk_181 0 16 (dk_at dksX0_init_1 0 rfl rfl)
theorem dX0_init_26 : decode cX0_init 26 = .ok (.aload_n 0, 1) := dk_42 (dk_at dksX0_init_1 3 rfl rfl)
theorem dX0_init_27 : decode cX0_init 27 = .ok (.sipush 300, 3) := dk_17 1 44 (dk_at dksX0_init_1 4 rfl rfl)
theorem dX0_init_30 : decode cX0_init 30 = .ok (.newarray .byte, 2) := dk_188_8 (dk_at dksX0_init_1 7 rfl rfl)
theorem dX0_init_32 : decode cX0_init 32 = .ok (.putfield 19, 3) := dk_181 0 19 (dk_at dksX0_init_1 9 rfl rfl)
theorem dX0_init_35 : decode cX0_init 35 = .ok (.aload_n 0, 1) := dk_42 (dk_at dksX0_init_1 12 rfl rfl)
theorem dX0_init_36 : decode cX0_init 36 = .ok (.iconst (-1), 1) := dk_2 (dk_at dksX0_init_1 13 rfl rfl)
theorem dX0_init_37 : decode cX0_init 37 = .ok (.putfield 23, 3) := dk_181 0 23 (dk_at dksX0_init_1 14 rfl rfl)
theorem dX0_init_40 : decode cX0_init 40 = .ok (.aload_n 0, 1) := dk_42 (dk_at dksX0_init_1 17 rfl rfl)
theorem dX0_init_41 : decode cX0_init 41 = .ok (.iconst (-1), 1) := dk_2 (dk_at dksX0_init_1 18 rfl rfl)
theorem dX0_init_42 : decode cX0_init 42 = .ok (.putfield 27, 3) := dk_181 0 27 (dk_at dksX0_init_1 19 rfl rfl)
theorem dX0_init_45 : decode cX0_init 45 = .ok (.aload_n 0, 1) := dk_42 (dk_at dksX0_init_1 22 rfl rfl)
theorem dX0_init_46 : decode cX0_init 46 = .ok (.bipush 8, 2) := dk_16 8 (dk_at dksX0_init_2 0 rfl rfl)
theorem dX0_init_48 : decode cX0_init 48 = .ok (.newarray .int, 2) := dk_188_10 (dk_at dksX0_init_2 2 rfl rfl)
theorem dX0_init_50 : decode cX0_init 50 = .ok (.putfield 30, 3) := dk_181 0 30 (dk_at dksX0_init_2 4 rfl rfl)
theorem dX0_init_53 : decode cX0_init 53 = .ok (.aload_n 0, 1) := dk_42 (dk_at dksX0_init_2 7 rfl rfl)
theorem dX0_init_54 : decode cX0_init 54 = .ok (.bipush 12, 2) := dk_16 12 (dk_at dksX0_init_2 8 rfl rfl)
theorem dX0_init_56 : decode cX0_init 56 = .ok (.newarray .int, 2) := dk_188_10 (dk_at dksX0_init_2 10 rfl rfl)
theorem dX0_init_58 : decode cX0_init 58 = .ok (.putfield 34, 3) := dk_181 0 34 (dk_at dksX0_init_2 12 rfl rfl)
theorem dX0_init_61 : decode cX0_init 61 = .ok (.aload_n 0, 1) := dk_42 (dk_at dksX0_init_2 15 rfl rfl)
theorem dX0_init_62 : decode cX0_init 62 = .ok (.bipush 12, 2) := dk_16 12 (dk_at dksX0_init_2 16 rfl rfl)
theorem dX0_init_64 : decode cX0_init 64 = .ok (.newarray .int, 2) := dk_188_10 (dk_at dksX0_init_2 18 rfl rfl)
theorem dX0_init_66 : decode cX0_init 66 = .ok (.putfield 37, 3) := dk_181 0 37 (dk_at dksX0_init_2 20 rfl rfl)
theorem dX0_init_69 : decode cX0_init 69 = .ok (.aload_n 0, 1) := dk_42 (dk_at dksX0_init_2 23 rfl rfl)
theorem dX0_init_70 : decode cX0_init 70 = .ok (.bipush 12, 2) := dk_16 12 (dk_at dksX0_init_3 0 rfl rfl)
theorem dX0_init_72 : decode cX0_init 72 = .ok (.bipush 20, 2) := dk_16 20 (dk_at dksX0_init_3 2 rfl rfl)
theorem dX0_init_74 : decode cX0_init 74 = .ok (.multianewarray 40 2, 4) := by decide +kernel
theorem dX0_init_78 : decode cX0_init 78 = .ok (.putfield 42, 3) := dk_181 0 42 (dk_at dksX0_init_3 8 rfl rfl)
theorem dX0_init_81 : decode cX0_init 81 = .ok (.aload_n 0, 1) := dk_42 (dk_at dksX0_init_3 11 rfl rfl)
theorem dX0_init_82 : decode cX0_init 82 = .ok (.bipush 12, 2) := dk_16 12 (dk_at dksX0_init_3 12 rfl rfl)
theorem dX0_init_84 : decode cX0_init 84 = .ok (.bipush 12, 2) := dk_16 12 (dk_at dksX0_init_3 14 rfl rfl)
theorem dX0_init_86 : decode cX0_init 86 = .ok (.multianewarray 45 2, 4) := by decide +kernel
theorem dX0_init_90 : decode cX0_init 90 = .ok (.putfield 47, 3) := dk_181 0 47 (dk_at dksX0_init_3 20 rfl rfl)
theorem dX0_init_93 : decode cX0_init 93 = .ok (.aload_n 0, 1) := dk_42 (dk_at dksX0_init_3 23 rfl rfl)
theorem dX0_init_94 : decode cX0_init 94 = .ok (.bipush 13, 2) := dk_16 13 (dk_at dksX0_init_4 0 rfl rfl)
theorem dX0_init_96 : decode cX0_init 96 = .ok (.sipush 4096, 3) := dk_17 16 0 (dk_at dksX0_init_4 2 rfl rfl)
theorem dX0_init_99 : decode cX0_init 99 = .ok (.multianewarray 40 2, 4) := by decide +kernel
theorem dX0_init_103 : decode cX0_init 103 = .ok (.putfield 50, 3) := dk_181 0 50 (dk_at dksX0_init_4 9 rfl rfl)
theorem dX0_init_106 : decode cX0_init 106 = .ok (.aload_n 0, 1) := dk_42 (dk_at dksX0_init_4 12 rfl rfl)
theorem dX0_init_107 : decode cX0_init 107 = .ok (.bipush 13, 2) := dk_16 13 (dk_at dksX0_init_4 13 rfl rfl)
theorem dX0_init_109 : decode cX0_init 109 = .ok (.sipush 4096, 3) := dk_17 16 0 (dk_at dksX0_init_4 15 rfl rfl)
theorem dX0_init_112 : decode cX0_init 112 = .ok (.multianewarray 53 2, 4) := by decide +kernel
theorem dX0_init_116 : decode cX0_init 116 = .ok (.putfield 55, 3) := dk_181 0 55 (dk_at dksX0_init_5 0 rfl rfl)
theorem dX0_init_119 : decode cX0_init 119 = .ok (.aload_n 0, 1) := dk_42 (dk_at dksX0_init_5 3 rfl rfl)
theorem dX0_init_120 : decode cX0_init 120 = .ok (.bipush 8, 2) := dk_16 8 (dk_at dksX0_init_5 4 rfl rfl)
theorem dX0_init_122 : decode cX0_init 122 = .ok (.newarray .int, 2) := dk_188_10 (dk_at dksX0_init_5 6 rfl rfl)
theorem dX0_init_124 : decode cX0_init 124 = .ok (.putfield 58, 3) := dk_181 0 58 (dk_at dksX0_init_5 8 rfl rfl)
theorem dX0_init_127 : decode cX0_init 127 = .ok (.aload_n 0, 1) := dk_42 (dk_at dksX0_init_5 11 rfl rfl)
theorem dX0_init_128 : decode cX0_init 128 = .ok (.bipush 8, 2) := dk_16 8 (dk_at dksX0_init_5 12 rfl rfl)
theorem dX0_init_130 : decode cX0_init 130 = .ok (.newarray .int, 2) := dk_188_10 (dk_at dksX0_init_5 14 rfl rfl)
theorem dX0_init_132 : decode cX0_init 132 = .ok (.putfield 61, 3) := dk_181 0 61 (dk_at dksX0_init_5 16 rfl rfl)
theorem dX0_init_135 : decode cX0_init 135 = .ok (.aload_n 0, 1) := dk_42 (dk_at dksX0_init_5 19 rfl rfl)
theorem dX0_init_136 : decode cX0_init 136 = .ok (.bipush 8, 2) := dk_16 8 (dk_at dksX0_init_5 20 rfl rfl)
theorem dX0_init_138 : decode cX0_init 138 = .ok (.newarray .int, 2) := dk_188_10 (dk_at dksX0_init_5 22 rfl rfl)
theorem dX0_init_140 : decode cX0_init 140 = .ok (.putfield 64, 3) := dk_181 0 64 (dk_at dksX0_init_6 0 rfl rfl)
theorem dX0_init_143 : decode cX0_init 143 = .ok (.aload_n 0, 1) := dk_42 (dk_at dksX0_init_6 3 rfl rfl)
theorem dX0_init_144 : decode cX0_init 144 = .ok (.getfield 16, 3) := dk_180 0 16 (dk_at dksX0_init_6 4 rfl rfl)
theorem dX0_init_147 : decode cX0_init 147 = .ok (.aload_n 0, 1) := dk_42 (dk_at dksX0_init_6 7 rfl rfl)
theorem dX0_init_148 : decode cX0_init 148 = .ok (.getfield 12, 3) := dk_180 0 12 (dk_at dksX0_init_6 8 rfl rfl)
theorem dX0_init_151 : decode cX0_init 151 = .ok (.invokevirtual 67, 3) := dk_182 0 67 (dk_at dksX0_init_6 11 rfl rfl)
theorem dX0_init_154 : decode cX0_init 154 = .ok (.return_, 1) := dk_177 (dk_at dksX0_init_6 14 rfl rfl)
def dkwX0_town_3 : List UInt8 := [172]
abbrev dktX0_town_3 : List UInt8 := dkwX0_town_3 ++ []
def dkwX0_town_2 : List UInt8 := [42, 180, 0, 12, 180, 0, 90, 29, 28, 79, 42, 180, 0, 12, 180, 0, 71, 3, 92, 46, 4, 96, 79, 29]
abbrev dktX0_town_2 : List UInt8 := dkwX0_town_2 ++ dktX0_town_3
def dkwX0_town_1 : List UInt8 := [184, 0, 74, 153, 0, 9, 29, 16, 10, 160, 0, 5, 2, 172, 42, 180, 0, 12, 180, 0, 81, 29, 27, 79]
abbrev dktX0_town_1 : List UInt8 := dkwX0_town_1 ++ dktX0_town_2
def dkwX0_town_0 : List UInt8 := [42, 180, 0, 12, 180, 0, 71, 3, 46, 62, 27, 3, 16, 99, 184, 0, 74, 153, 0, 19, 28, 3, 16, 99]
abbrev dktX0_town_0 : List UInt8 := dkwX0_town_0 ++ dktX0_town_1
theorem dksX0_town_0 : cX0_town.data.toList.drop 0 = dktX0_town_0 := by decide +kernel
theorem dksX0_town_1 : cX0_town.data.toList.drop 24 = dktX0_town_1 := dk_seg dksX0_town_0 24 rfl rfl
theorem dksX0_town_2 : cX0_town.data.toList.drop 48 = dktX0_town_2 := dk_seg dksX0_town_1 24 rfl rfl
theorem dksX0_town_3 : cX0_town.data.toList.drop 72 = dktX0_town_3 := dk_seg dksX0_town_2 24 rfl rfl
theorem dX0_town_0 : decode cX0_town 0 = .ok (.aload_n 0, 1) := dk_42 (dk_at dksX0_town_0 0 rfl rfl)
theorem dX0_town_1 : decode cX0_town 1 = .ok (.getfield 12, 3) := dk_180 0 12 (dk_at dksX0_town_0 1 rfl rfl)
theorem dX0_town_4 : decode cX0_town 4 = .ok (.getfield 71, 3) := dk_180 0 71 (dk_at dksX0_town_0 4 rfl rfl)
theorem dX0_town_7 : decode cX0_town 7 = .ok (.iconst 0, 1) := dk_3 (dk_at dksX0_town_0 7 rfl rfl)
theorem dX0_town_8 : decode cX0_town 8 = .ok (.iaload, 1) := dk_46 (dk_at dksX0_town_0 8 rfl rfl)
theorem dX0_town_9 : decode cX0_town 9 = .ok (.istore_n 3, 1) := dk_62 (dk_at dksX0_town_0 9 rfl rfl)
theorem dX0_town_10 : decode cX0_town 10 = .ok (.iload_n 1, 1) := dk_27 (dk_at dksX0_town_0 10 rfl rfl)
theorem dX0_town_11 : decode cX0_town 11 = .ok (.iconst 0, 1) := dk_3 (dk_at dksX0_town_0 11 rfl rfl)
theorem dX0_town_12 : decode cX0_town 12 = .ok (.bipush 99, 2) := dk_16 99 (dk_at dksX0_town_0 12 rfl rfl)
theorem dX0_town_14 : decode cX0_town 14 = .ok (.invokestatic 74, 3) := dk_184 0 74 (dk_at dksX0_town_0 14 rfl rfl)
theorem dX0_town_17 : decode cX0_town 17 = .ok (.ifCond .eq 19, 3) := dk_153 0 19 (dk_at dksX0_town_0 17 rfl rfl)
theorem dX0_town_20 : decode cX0_town 20 = .ok (.iload_n 2, 1) := dk_28 (dk_at dksX0_town_0 20 rfl rfl)
theorem dX0_town_21 : decode cX0_town 21 = .ok (.iconst 0, 1) := dk_3 (dk_at dksX0_town_0 21 rfl rfl)
theorem dX0_town_22 : decode cX0_town 22 = .ok (.bipush 99, 2) := dk_16 99 (dk_at dksX0_town_0 22 rfl rfl)
theorem dX0_town_24 : decode cX0_town 24 = .ok (.invokestatic 74, 3) := dk_184 0 74 (dk_at dksX0_town_1 0 rfl rfl)
theorem dX0_town_27 : decode cX0_town 27 = .ok (.ifCond .eq 9, 3) := dk_153 0 9 (dk_at dksX0_town_1 3 rfl rfl)
theorem dX0_town_30 : decode cX0_town 30 = .ok (.iload_n 3, 1) := dk_29 (dk_at dksX0_town_1 6 rfl rfl)
theorem dX0_town_31 : decode cX0_town 31 = .ok (.bipush 10, 2) := dk_16 10 (dk_at dksX0_town_1 7 rfl rfl)
theorem dX0_town_33 : decode cX0_town 33 = .ok (.if_icmp .ne 5, 3) := dk_160 0 5 (dk_at dksX0_town_1 9 rfl rfl)
theorem dX0_town_36 : decode cX0_town 36 = .ok (.iconst (-1), 1) := dk_2 (dk_at dksX0_town_1 12 rfl rfl)
theorem dX0_town_37 : decode cX0_town 37 = .ok (.ireturn, 1) := dk_172 (dk_at dksX0_town_1 13 rfl rfl)
theorem dX0_town_38 : decode cX0_town 38 = .ok (.aload_n 0, 1) := dk_42 (dk_at dksX0_town_1 14 rfl rfl)
theorem dX0_town_39 : decode cX0_town 39 = .ok (.getfield 12, 3) := dk_180 0 12 (dk_at dksX0_town_1 15 rfl rfl)
theorem dX0_town_42 : decode cX0_town 42 = .ok (.getfield 81, 3) := dk_180 0 81 (dk_at dksX0_town_1 18 rfl rfl)
theorem dX0_town_45 : decode cX0_town 45 = .ok (.iload_n 3, 1) := dk_29 (dk_at dksX0_town_1 21 rfl rfl)
theorem dX0_town_46 : decode cX0_town 46 = .ok (.iload_n 1, 1) := dk_27 (dk_at dksX0_town_1 22 rfl rfl)
theorem dX0_town_47 : decode cX0_town 47 = .ok (.iastore, 1) := dk_79 (dk_at dksX0_town_1 23 rfl rfl)
theorem dX0_town_48 : decode cX0_town 48 = .ok (.aload_n 0, 1) := dk_42 (dk_at dksX0_town_2 0 rfl rfl)
theorem dX0_town_49 : decode cX0_town 49 = .ok (.getfield 12, 3) := dk_180 0 12 (dk_at dksX0_town_2 1 rfl rfl)
theorem dX0_town_52 : decode cX0_town 52 = .ok (.getfield 90, 3) := dk_180 0 90 (dk_at dksX0_town_2 4 rfl rfl)
theorem dX0_town_55 : decode cX0_town 55 = .ok (.iload_n 3, 1) := dk_29 (dk_at dksX0_town_2 7 rfl rfl)
theorem dX0_town_56 : decode cX0_town 56 = .ok (.iload_n 2, 1) := dk_28 (dk_at dksX0_town_2 8 rfl rfl)
theorem dX0_town_57 : decode cX0_town 57 = .ok (.iastore, 1) := dk_79 (dk_at dksX0_town_2 9 rfl rfl)
theorem dX0_town_58 : decode cX0_town 58 = .ok (.aload_n 0, 1) := dk_42 (dk_at dksX0_town_2 10 rfl rfl)
theorem dX0_town_59 : decode cX0_town 59 = .ok (.getfield 12, 3) := dk_180 0 12 (dk_at dksX0_town_2 11 rfl rfl)
theorem dX0_town_62 : decode cX0_town 62 = .ok (.getfield 71, 3) := dk_180 0 71 (dk_at dksX0_town_2 14 rfl rfl)
theorem dX0_town_65 : decode cX0_town 65 = .ok (.iconst 0, 1) := dk_3 (dk_at dksX0_town_2 17 rfl rfl)
theorem dX0_town_66 : decode cX0_town 66 = .ok (.dup2, 1) := dk_92 (dk_at dksX0_town_2 18 rfl rfl)
theorem dX0_town_67 : decode cX0_town 67 = .ok (.iaload, 1) := dk_46 (dk_at dksX0_town_2 19 rfl rfl)
theorem dX0_town_68 : decode cX0_town 68 = .ok (.iconst 1, 1) := dk_4 (dk_at dksX0_town_2 20 rfl rfl)
theorem dX0_town_69 : decode cX0_town 69 = .ok (.iadd, 1) := dk_96 (dk_at dksX0_town_2 21 rfl rfl)
theorem dX0_town_70 : decode cX0_town 70 = .ok (.iastore, 1) := dk_79 (dk_at dksX0_town_2 22 rfl rfl)
theorem dX0_town_71 : decode cX0_town 71 = .ok (.iload_n 3, 1) := dk_29 (dk_at dksX0_town_2 23 rfl rfl)
theorem dX0_town_72 : decode cX0_town 72 = .ok (.ireturn, 1) := dk_172 (dk_at dksX0_town_3 0 rfl rfl)
def dkwX0_in_0 : List UInt8 := [26, 27, 161, 0, 12, 26, 28, 163, 0, 7, 4, 167, 0, 4, 3, 172]
abbrev dktX0_in_0 : List UInt8 := dkwX0_in_0 ++ []
theorem dksX0_in_0 : cX0_in.data.toList.drop 0 = dktX0_in_0 := by decide +kernel
theorem dX0_in_0 : decode cX0_in 0 = .ok (.iload_n 0, 1) := dk_26 (dk_at dksX0_in_0 0 rfl rfl)
theorem dX0_in_1 : decode cX0_in 1 = .ok (.iload_n 1, 1) := dk_27 (dk_at dksX0_in_0 1 rfl rfl)
theorem dX0_in_2 : decode cX0_in 2 = .ok (.if_icmp .lt 12, 3) := dk_161 0 12 (dk_at dksX0_in_0 2 rfl rfl)
theorem dX0_in_5 : decode cX0_in 5 = .ok (.iload_n 0, 1) := dk_26 (dk_at dksX0_in_0 5 rfl rfl)
theorem dX0_in_6 : decode cX0_in 6 = .ok (.iload_n 2, 1) := dk_28 (dk_at dksX0_in_0 6 rfl rfl)
theorem dX0_in_7 : decode cX0_in 7 = .ok (.if_icmp .gt 7, 3) := dk_163 0 7 (dk_at dksX0_in_0 7 rfl rfl)
theorem dX0_in_10 : decode cX0_in 10 = .ok (.iconst 1, 1) := dk_4 (dk_at dksX0_in_0 10 rfl rfl)
theorem dX0_in_11 : decode cX0_in 11 = .ok (.goto 4, 3) := dk_167 0 4 (dk_at dksX0_in_0 11 rfl rfl)
theorem dX0_in_14 : decode cX0_in 14 = .ok (.iconst 0, 1) := dk_3 (dk_at dksX0_in_0 14 rfl rfl)
theorem dX0_in_15 : decode cX0_in 15 = .ok (.ireturn, 1) := dk_172 (dk_at dksX0_in_0 15 rfl rfl)
def dkwX0_bone_6 : List UInt8 := [132, 6, 1, 167, 255, 218, 42, 180, 0, 12, 180, 0, 71, 4, 92, 46, 4, 96, 79, 21, 4, 172]
abbrev dktX0_bone_6 : List UInt8 := dkwX0_bone_6 ++ []
def dkwX0_bone_5 : List UInt8 := [162, 0, 30, 25, 5, 3, 42, 180, 0, 12, 180, 0, 101, 21, 6, 50, 21, 4, 8, 104, 8, 184, 0, 104]
abbrev dktX0_bone_5 : List UInt8 := dkwX0_bone_5 ++ dktX0_bone_6
def dkwX0_bone_4 : List UInt8 := [182, 0, 97, 132, 6, 1, 167, 255, 234, 3, 54, 6, 21, 6, 42, 180, 0, 12, 180, 0, 71, 7, 46]
abbrev dktX0_bone_4 : List UInt8 := dkwX0_bone_4 ++ dktX0_bone_5
def dkwX0_bone_3 : List UInt8 := [79, 58, 5, 3, 54, 6, 21, 6, 8, 162, 0, 22, 42, 21, 4, 21, 6, 25, 5, 21, 6, 46]
abbrev dktX0_bone_3 : List UInt8 := dkwX0_bone_3 ++ dktX0_bone_4
def dkwX0_bone_2 : List UInt8 := [2, 172, 8, 188, 10, 89, 3, 27, 79, 89, 4, 28, 79, 89, 5, 29, 79, 89, 6, 29, 79, 89, 7, 2]
abbrev dktX0_bone_2 : List UInt8 := dkwX0_bone_2 ++ dktX0_bone_3
def dkwX0_bone_1 : List UInt8 := [17, 3, 231, 184, 0, 74, 153, 0, 18, 42, 29, 182, 0, 93, 153, 0, 10, 21, 4, 16, 16, 160, 0, 5]
abbrev dktX0_bone_1 : List UInt8 := dkwX0_bone_1 ++ dktX0_bone_2
def dkwX0_bone_0 : List UInt8 := [42, 180, 0, 12, 180, 0, 71, 4, 46, 54, 4, 27, 3, 16, 19, 184, 0, 74, 153, 0, 29, 28, 4]
abbrev dktX0_bone_0 : List UInt8 := dkwX0_bone_0 ++ dktX0_bone_1
theorem dksX0_bone_0 : cX0_bone.data.toList.drop 0 = dktX0_bone_0 := by decide +kernel
theorem dksX0_bone_1 : cX0_bone.data.toList.drop 23 = dktX0_bone_1 := dk_seg dksX0_bone_0 23 rfl rfl
theorem dksX0_bone_2 : cX0_bone.data.toList.drop 47 = dktX0_bone_2 := dk_seg dksX0_bone_1 24 rfl rfl
theorem dksX0_bone_3 : cX0_bone.data.toList.drop 71 = dktX0_bone_3 := dk_seg dksX0_bone_2 24 rfl rfl
theorem dksX0_bone_4 : cX0_bone.data.toList.drop 93 = dktX0_bone_4 := dk_seg dksX0_bone_3 22 rfl rfl
theorem dksX0_bone_5 : cX0_bone.data.toList.drop 116 = dktX0_bone_5 := dk_seg dksX0_bone_4 23 rfl rfl
theorem dksX0_bone_6 : cX0_bone.data.toList.drop 140 = dktX0_bone_6 := dk_seg dksX0_bone_5 24 rfl rfl
theorem dX0_bone_0 : decode cX0_bone 0 = .ok (.aload_n 0, 1) := dk_42 (dk_at dksX0_bone_0 0 rfl rfl)
theorem dX0_bone_1 : decode cX0_bone 1 = .ok (.getfield 12, 3) := dk_180 0 12 (dk_at dksX0_bone_0 1 rfl rfl)
theorem dX0_bone_4 : decode cX0_bone 4 = .ok (.getfield 71, 3) := dk_180 0 71 (dk_at dksX0_bone_0 4 rfl rfl)
theorem dX0_bone_7 : decode cX0_bone 7 = .ok (.iconst 1, 1) := dk_4 (dk_at dksX0_bone_0 7 rfl rfl)
theorem dX0_bone_8 : decode cX0_bone 8 = .ok (.iaload, 1) := dk_46 (dk_at dksX0_bone_0 8 rfl rfl)
theorem dX0_bone_9 : decode cX0_bone 9 = .ok (.istore 4, 2) := dk_54 4 (dk_at dksX0_bone_0 9 rfl rfl)
theorem dX0_bone_11 : decode cX0_bone 11 = .ok (.iload_n 1, 1) := dk_27 (dk_at dksX0_bone_0 11 rfl rfl)
theorem dX0_bone_12 : decode cX0_bone 12 = .ok (.iconst 0, 1) := dk_3 (dk_at dksX0_bone_0 12 rfl rfl)
theorem dX0_bone_13 : decode cX0_bone 13 = .ok (.bipush 19, 2) := dk_16 19 (dk_at dksX0_bone_0 13 rfl rfl)
theorem dX0_bone_15 : decode cX0_bone 15 = .ok (.invokestatic 74, 3) := dk_184 0 74 (dk_at dksX0_bone_0 15 rfl rfl)
theorem dX0_bone_18 : decode cX0_bone 18 = .ok (.ifCond .eq 29, 3) := dk_153 0 29 (dk_at dksX0_bone_0 18 rfl rfl)
theorem dX0_bone_21 : decode cX0_bone 21 = .ok (.iload_n 2, 1) := dk_28 (dk_at dksX0_bone_0 21 rfl rfl)
theorem dX0_bone_22 : decode cX0_bone 22 = .ok (.iconst 1, 1) := dk_4 (dk_at dksX0_bone_0 22 rfl rfl)
theorem dX0_bone_23 : decode cX0_bone 23 = .ok (.sipush 999, 3) := dk_17 3 231 (dk_at dksX0_bone_1 0 rfl rfl)
theorem dX0_bone_26 : decode cX0_bone 26 = .ok (.invokestatic 74, 3) := dk_184 0 74 (dk_at dksX0_bone_1 3 rfl rfl)
theorem dX0_bone_29 : decode cX0_bone 29 = .ok (.ifCond .eq 18, 3) := dk_153 0 18 (dk_at dksX0_bone_1 6 rfl rfl)
theorem dX0_bone_32 : decode cX0_bone 32 = .ok (.aload_n 0, 1) := dk_42 (dk_at dksX0_bone_1 9 rfl rfl)
theorem dX0_bone_33 : decode cX0_bone 33 = .ok (.iload_n 3, 1) := dk_29 (dk_at dksX0_bone_1 10 rfl rfl)
theorem dX0_bone_34 : decode cX0_bone 34 = .ok (.invokevirtual 93, 3) := dk_182 0 93 (dk_at dksX0_bone_1 11 rfl rfl)
theorem dX0_bone_37 : decode cX0_bone 37 = .ok (.ifCond .eq 10, 3) := dk_153 0 10 (dk_at dksX0_bone_1 14 rfl rfl)
theorem dX0_bone_40 : decode cX0_bone 40 = .ok (.iload 4, 2) := dk_21 4 (dk_at dksX0_bone_1 17 rfl rfl)
theorem dX0_bone_42 : decode cX0_bone 42 = .ok (.bipush 16, 2) := dk_16 16 (dk_at dksX0_bone_1 19 rfl rfl)
theorem dX0_bone_44 : decode cX0_bone 44 = .ok (.if_icmp .ne 5, 3) := dk_160 0 5 (dk_at dksX0_bone_1 21 rfl rfl)
theorem dX0_bone_47 : decode cX0_bone 47 = .ok (.iconst (-1), 1) := dk_2 (dk_at dksX0_bone_2 0 rfl rfl)
theorem dX0_bone_48 : decode cX0_bone 48 = .ok (.ireturn, 1) := dk_172 (dk_at dksX0_bone_2 1 rfl rfl)
theorem dX0_bone_49 : decode cX0_bone 49 = .ok (.iconst 5, 1) := dk_8 (dk_at dksX0_bone_2 2 rfl rfl)
theorem dX0_bone_50 : decode cX0_bone 50 = .ok (.newarray .int, 2) := dk_188_10 (dk_at dksX0_bone_2 3 rfl rfl)
theorem dX0_bone_52 : decode cX0_bone 52 = .ok (.dup, 1) := dk_89 (dk_at dksX0_bone_2 5 rfl rfl)
theorem dX0_bone_53 : decode cX0_bone 53 = .ok (.iconst 0, 1) := dk_3 (dk_at dksX0_bone_2 6 rfl rfl)
theorem dX0_bone_54 : decode cX0_bone 54 = .ok (.iload_n 1, 1) := dk_27 (dk_at dksX0_bone_2 7 rfl rfl)
theorem dX0_bone_55 : decode cX0_bone 55 = .ok (.iastore, 1) := dk_79 (dk_at dksX0_bone_2 8 rfl rfl)
theorem dX0_bone_56 : decode cX0_bone 56 = .ok (.dup, 1) := dk_89 (dk_at dksX0_bone_2 9 rfl rfl)
theorem dX0_bone_57 : decode cX0_bone 57 = .ok (.iconst 1, 1) := dk_4 (dk_at dksX0_bone_2 10 rfl rfl)
theorem dX0_bone_58 : decode cX0_bone 58 = .ok (.iload_n 2, 1) := dk_28 (dk_at dksX0_bone_2 11 rfl rfl)
theorem dX0_bone_59 : decode cX0_bone 59 = .ok (.iastore, 1) := dk_79 (dk_at dksX0_bone_2 12 rfl rfl)
theorem dX0_bone_60 : decode cX0_bone 60 = .ok (.dup, 1) := dk_89 (dk_at dksX0_bone_2 13 rfl rfl)
theorem dX0_bone_61 : decode cX0_bone 61 = .ok (.iconst 2, 1) := dk_5 (dk_at dksX0_bone_2 14 rfl rfl)
theorem dX0_bone_62 : decode cX0_bone 62 = .ok (.iload_n 3, 1) := dk_29 (dk_at dksX0_bone_2 15 rfl rfl)
theorem dX0_bone_63 : decode cX0_bone 63 = .ok (.iastore, 1) := dk_79 (dk_at dksX0_bone_2 16 rfl rfl)
theorem dX0_bone_64 : decode cX0_bone 64 = .ok (.dup, 1) := dk_89 (dk_at dksX0_bone_2 17 rfl rfl)
theorem dX0_bone_65 : decode cX0_bone 65 = .ok (.iconst 3, 1) := dk_6 (dk_at dksX0_bone_2 18 rfl rfl)
theorem dX0_bone_66 : decode cX0_bone 66 = .ok (.iload_n 3, 1) := dk_29 (dk_at dksX0_bone_2 19 rfl rfl)
theorem dX0_bone_67 : decode cX0_bone 67 = .ok (.iastore, 1) := dk_79 (dk_at dksX0_bone_2 20 rfl rfl)
theorem dX0_bone_68 : decode cX0_bone 68 = .ok (.dup, 1) := dk_89 (dk_at dksX0_bone_2 21 rfl rfl)
theorem dX0_bone_69 : decode cX0_bone 69 = .ok (.iconst 4, 1) := dk_7 (dk_at dksX0_bone_2 22 rfl rfl)
theorem dX0_bone_70 : decode cX0_bone 70 = .ok (.iconst (-1), 1) := dk_2 (dk_at dksX0_bone_2 23 rfl rfl)
theorem dX0_bone_71 : decode cX0_bone 71 = .ok (.iastore, 1) := dk_79 (dk_at dksX0_bone_3 0 rfl rfl)
theorem dX0_bone_72 : decode cX0_bone 72 = .ok (.astore 5, 2) := dk_58 5 (dk_at dksX0_bone_3 1 rfl rfl)
theorem dX0_bone_74 : decode cX0_bone 74 = .ok (.iconst 0, 1) := dk_3 (dk_at dksX0_bone_3 3 rfl rfl)
theorem dX0_bone_75 : decode cX0_bone 75 = .ok (.istore 6, 2) := dk_54 6 (dk_at dksX0_bone_3 4 rfl rfl)
theorem dX0_bone_77 : decode cX0_bone 77 = .ok (.iload 6, 2) := dk_21 6 (dk_at dksX0_bone_3 6 rfl rfl)
theorem dX0_bone_79 : decode cX0_bone 79 = .ok (.iconst 5, 1) := dk_8 (dk_at dksX0_bone_3 8 rfl rfl)
theorem dX0_bone_80 : decode cX0_bone 80 = .ok (.if_icmp .ge 22, 3) := dk_162 0 22 (dk_at dksX0_bone_3 9 rfl rfl)
theorem dX0_bone_83 : decode cX0_bone 83 = .ok (.aload_n 0, 1) := dk_42 (dk_at dksX0_bone_3 12 rfl rfl)
theorem dX0_bone_84 : decode cX0_bone 84 = .ok (.iload 4, 2) := dk_21 4 (dk_at dksX0_bone_3 13 rfl rfl)
theorem dX0_bone_86 : decode cX0_bone 86 = .ok (.iload 6, 2) := dk_21 6 (dk_at dksX0_bone_3 15 rfl rfl)
theorem dX0_bone_88 : decode cX0_bone 88 = .ok (.aload 5, 2) := dk_25 5 (dk_at dksX0_bone_3 17 rfl rfl)
theorem dX0_bone_90 : decode cX0_bone 90 = .ok (.iload 6, 2) := dk_21 6 (dk_at dksX0_bone_3 19 rfl rfl)
theorem dX0_bone_92 : decode cX0_bone 92 = .ok (.iaload, 1) := dk_46 (dk_at dksX0_bone_3 21 rfl rfl)
theorem dX0_bone_93 : decode cX0_bone 93 = .ok (.invokevirtual 97, 3) := dk_182 0 97 (dk_at dksX0_bone_4 0 rfl rfl)
theorem dX0_bone_96 : decode cX0_bone 96 = .ok (.iinc 6 1, 3) := dk_132 6 1 (dk_at dksX0_bone_4 3 rfl rfl)
theorem dX0_bone_99 : decode cX0_bone 99 = .ok (.goto (-22), 3) := dk_167 255 234 (dk_at dksX0_bone_4 6 rfl rfl)
theorem dX0_bone_102 : decode cX0_bone 102 = .ok (.iconst 0, 1) := dk_3 (dk_at dksX0_bone_4 9 rfl rfl)
theorem dX0_bone_103 : decode cX0_bone 103 = .ok (.istore 6, 2) := dk_54 6 (dk_at dksX0_bone_4 10 rfl rfl)
theorem dX0_bone_105 : decode cX0_bone 105 = .ok (.iload 6, 2) := dk_21 6 (dk_at dksX0_bone_4 12 rfl rfl)
theorem dX0_bone_107 : decode cX0_bone 107 = .ok (.aload_n 0, 1) := dk_42 (dk_at dksX0_bone_4 14 rfl rfl)
theorem dX0_bone_108 : decode cX0_bone 108 = .ok (.getfield 12, 3) := dk_180 0 12 (dk_at dksX0_bone_4 15 rfl rfl)
theorem dX0_bone_111 : decode cX0_bone 111 = .ok (.getfield 71, 3) := dk_180 0 71 (dk_at dksX0_bone_4 18 rfl rfl)
theorem dX0_bone_114 : decode cX0_bone 114 = .ok (.iconst 4, 1) := dk_7 (dk_at dksX0_bone_4 21 rfl rfl)
theorem dX0_bone_115 : decode cX0_bone 115 = .ok (.iaload, 1) := dk_46 (dk_at dksX0_bone_4 22 rfl rfl)
theorem dX0_bone_116 : decode cX0_bone 116 = .ok (.if_icmp .ge 30, 3) := dk_162 0 30 (dk_at dksX0_bone_5 0 rfl rfl)
theorem dX0_bone_119 : decode cX0_bone 119 = .ok (.aload 5, 2) := dk_25 5 (dk_at dksX0_bone_5 3 rfl rfl)
theorem dX0_bone_121 : decode cX0_bone 121 = .ok (.iconst 0, 1) := dk_3 (dk_at dksX0_bone_5 5 rfl rfl)
theorem dX0_bone_122 : decode cX0_bone 122 = .ok (.aload_n 0, 1) := dk_42 (dk_at dksX0_bone_5 6 rfl rfl)
theorem dX0_bone_123 : decode cX0_bone 123 = .ok (.getfield 12, 3) := dk_180 0 12 (dk_at dksX0_bone_5 7 rfl rfl)
theorem dX0_bone_126 : decode cX0_bone 126 = .ok (.getfield 101, 3) := dk_180 0 101 (dk_at dksX0_bone_5 10 rfl rfl)
theorem dX0_bone_129 : decode cX0_bone 129 = .ok (.iload 6, 2) := dk_21 6 (dk_at dksX0_bone_5 13 rfl rfl)
theorem dX0_bone_131 : decode cX0_bone 131 = .ok (.aaload, 1) := dk_50 (dk_at dksX0_bone_5 15 rfl rfl)
theorem dX0_bone_132 : decode cX0_bone 132 = .ok (.iload 4, 2) := dk_21 4 (dk_at dksX0_bone_5 16 rfl rfl)
theorem dX0_bone_134 : decode cX0_bone 134 = .ok (.iconst 5, 1) := dk_8 (dk_at dksX0_bone_5 18 rfl rfl)
theorem dX0_bone_135 : decode cX0_bone 135 = .ok (.imul, 1) := dk_104 (dk_at dksX0_bone_5 19 rfl rfl)
theorem dX0_bone_136 : decode cX0_bone 136 = .ok (.iconst 5, 1) := dk_8 (dk_at dksX0_bone_5 20 rfl rfl)
theorem dX0_bone_137 : decode cX0_bone 137 = .ok (.invokestatic 104, 3) := dk_184 0 104 (dk_at dksX0_bone_5 21 rfl rfl)
theorem dX0_bone_140 : decode cX0_bone 140 = .ok (.iinc 6 1, 3) := dk_132 6 1 (dk_at dksX0_bone_6 0 rfl rfl)
theorem dX0_bone_143 : decode cX0_bone 143 = .ok (.goto (-38), 3) := dk_167 255 218 (dk_at dksX0_bone_6 3 rfl rfl)
theorem dX0_bone_146 : decode cX0_bone 146 = .ok (.aload_n 0, 1) := dk_42 (dk_at dksX0_bone_6 6 rfl rfl)
theorem dX0_bone_147 : decode cX0_bone 147 = .ok (.getfield 12, 3) := dk_180 0 12 (dk_at dksX0_bone_6 7 rfl rfl)
theorem dX0_bone_150 : decode cX0_bone 150 = .ok (.getfield 71, 3) := dk_180 0 71 (dk_at dksX0_bone_6 10 rfl rfl)
theorem dX0_bone_153 : decode cX0_bone 153 = .ok (.iconst 1, 1) := dk_4 (dk_at dksX0_bone_6 13 rfl rfl)
theorem dX0_bone_154 : decode cX0_bone 154 = .ok (.dup2, 1) := dk_92 (dk_at dksX0_bone_6 14 rfl rfl)
theorem dX0_bone_155 : decode cX0_bone 155 = .ok (.iaload, 1) := dk_46 (dk_at dksX0_bone_6 15 rfl rfl)
theorem dX0_bone_156 : decode cX0_bone 156 = .ok (.iconst 1, 1) := dk_4 (dk_at dksX0_bone_6 16 rfl rfl)
theorem dX0_bone_157 : decode cX0_bone 157 = .ok (.iadd, 1) := dk_96 (dk_at dksX0_bone_6 17 rfl rfl)
theorem dX0_bone_158 : decode cX0_bone 158 = .ok (.iastore, 1) := dk_79 (dk_at dksX0_bone_6 18 rfl rfl)
theorem dX0_bone_159 : decode cX0_bone 159 = .ok (.iload 4, 2) := dk_21 4 (dk_at dksX0_bone_6 19 rfl rfl)
theorem dX0_bone_161 : decode cX0_bone 161 = .ok (.ireturn, 1) := dk_172 (dk_at dksX0_bone_6 21 rfl rfl)
def dkwX0_isTown_0 : List UInt8 := [27, 3, 42, 180, 0, 12, 180, 0, 71, 3, 46, 4, 100, 184, 0, 74, 172]
abbrev dktX0_isTown_0 : List UInt8 := dkwX0_isTown_0 ++ []
theorem dksX0_isTown_0 : cX0_isTown.data.toList.drop 0 = dktX0_isTown_0 := by decide +kernel
theorem dX0_isTown_0 : decode cX0_isTown 0 = .ok (.iload_n 1, 1) := dk_27 (dk_at dksX0_isTown_0 0 rfl rfl)
theorem dX0_isTown_1 : decode cX0_isTown 1 = .ok (.iconst 0, 1) := dk_3 (dk_at dksX0_isTown_0 1 rfl rfl)
theorem dX0_isTown_2 : decode cX0_isTown 2 = .ok (.aload_n 0, 1) := dk_42 (dk_at dksX0_isTown_0 2 rfl rfl)
theorem dX0_isTown_3 : decode cX0_isTown 3 = .ok (.getfield 12, 3) := dk_180 0 12 (dk_at dksX0_isTown_0 3 rfl rfl)
theorem dX0_isTown_6 : decode cX0_isTown 6 = .ok (.getfield 71, 3) := dk_180 0 71 (dk_at dksX0_isTown_0 6 rfl rfl)
theorem dX0_isTown_9 : decode cX0_isTown 9 = .ok (.iconst 0, 1) := dk_3 (dk_at dksX0_isTown_0 9 rfl rfl)
theorem dX0_isTown_10 : decode cX0_isTown 10 = .ok (.iaload, 1) := dk_46 (dk_at dksX0_isTown_0 10 rfl rfl)
theorem dX0_isTown_11 : decode cX0_isTown 11 = .ok (.iconst 1, 1) := dk_4 (dk_at dksX0_isTown_0 11 rfl rfl)
theorem dX0_isTown_12 : decode cX0_isTown 12 = .ok (.isub, 1) := dk_100 (dk_at dksX0_isTown_0 12 rfl rfl)
theorem dX0_isTown_13 : decode cX0_isTown 13 = .ok (.invokestatic 74, 3) := dk_184 0 74 (dk_at dksX0_isTown_0 13 rfl rfl)
theorem dX0_isTown_16 : decode cX0_isTown 16 = .ok (.ireturn, 1) := dk_172 (dk_at dksX0_isTown_0 16 rfl rfl)
def dkwX0_puts_0 : List UInt8 := [42, 180, 0, 12, 180, 0, 78, 27, 8, 104, 28, 96, 29, 79, 177]
abbrev dktX0_puts_0 : List UInt8 := dkwX0_puts_0 ++ []
theorem dksX0_puts_0 : cX0_puts.data.toList.drop 0 = dktX0_puts_0 := by decide +kernel
theorem dX0_puts_0 : decode cX0_puts 0 = .ok (.aload_n 0, 1) := dk_42 (dk_at dksX0_puts_0 0 rfl rfl)
theorem dX0_puts_1 : decode cX0_puts 1 = .ok (.getfield 12, 3) := dk_180 0 12 (dk_at dksX0_puts_0 1 rfl rfl)
theorem dX0_puts_4 : decode cX0_puts 4 = .ok (.getfield 78, 3) := dk_180 0 78 (dk_at dksX0_puts_0 4 rfl rfl)
theorem dX0_puts_7 : decode cX0_puts 7 = .ok (.iload_n 1, 1) := dk_27 (dk_at dksX0_puts_0 7 rfl rfl)
theorem dX0_puts_8 : decode cX0_puts 8 = .ok (.iconst 5, 1) := dk_8 (dk_at dksX0_puts_0 8 rfl rfl)
theorem dX0_puts_9 : decode cX0_puts 9 = .ok (.imul, 1) := dk_104 (dk_at dksX0_puts_0 9 rfl rfl)
theorem dX0_puts_10 : decode cX0_puts 10 = .ok (.iload_n 2, 1) := dk_28 (dk_at dksX0_puts_0 10 rfl rfl)
theorem dX0_puts_11 : decode cX0_puts 11 = .ok (.iadd, 1) := dk_96 (dk_at dksX0_puts_0 11 rfl rfl)
theorem dX0_puts_12 : decode cX0_puts 12 = .ok (.iload_n 3, 1) := dk_29 (dk_at dksX0_puts_0 12 rfl rfl)
theorem dX0_puts_13 : decode cX0_puts 13 = .ok (.iastore, 1) := dk_79 (dk_at dksX0_puts_0 13 rfl rfl)
theorem dX0_puts_14 : decode cX0_puts 14 = .ok (.return_, 1) := dk_177 (dk_at dksX0_puts_0 14 rfl rfl)
def dkwX0_prove_2 : List UInt8 := [46, 4, 28, 120, 128, 79, 4, 172]
abbrev dktX0_prove_2 : List UInt8 := dkwX0_prove_2 ++ []
def dkwX0_prove_1 : List UInt8 := [153, 0, 5, 3, 172, 42, 180, 0, 12, 182, 0, 117, 42, 180, 0, 12, 180, 0, 78, 16, 80, 27, 96, 92]
abbrev dktX0_prove_1 : List UInt8 := dkwX0_prove_1 ++ dktX0_prove_2
def dkwX0_prove_0 : List UInt8 := [42, 27, 182, 0, 93, 153, 0, 20, 42, 28, 182, 0, 110, 153, 0, 12, 42, 27, 28, 182, 0, 113]
abbrev dktX0_prove_0 : List UInt8 := dkwX0_prove_0 ++ dktX0_prove_1
theorem dksX0_prove_0 : cX0_prove.data.toList.drop 0 = dktX0_prove_0 := by decide +kernel
theorem dksX0_prove_1 : cX0_prove.data.toList.drop 22 = dktX0_prove_1 := dk_seg dksX0_prove_0 22 rfl rfl
theorem dksX0_prove_2 : cX0_prove.data.toList.drop 46 = dktX0_prove_2 := dk_seg dksX0_prove_1 24 rfl rfl
theorem dX0_prove_0 : decode cX0_prove 0 = .ok (.aload_n 0, 1) := dk_42 (dk_at dksX0_prove_0 0 rfl rfl)
theorem dX0_prove_1 : decode cX0_prove 1 = .ok (.iload_n 1, 1) := dk_27 (dk_at dksX0_prove_0 1 rfl rfl)
theorem dX0_prove_2 : decode cX0_prove 2 = .ok (.invokevirtual 93, 3) := dk_182 0 93 (dk_at dksX0_prove_0 2 rfl rfl)
theorem dX0_prove_5 : decode cX0_prove 5 = .ok (.ifCond .eq 20, 3) := dk_153 0 20 (dk_at dksX0_prove_0 5 rfl rfl)
theorem dX0_prove_8 : decode cX0_prove 8 = .ok (.aload_n 0, 1) := dk_42 (dk_at dksX0_prove_0 8 rfl rfl)
theorem dX0_prove_9 : decode cX0_prove 9 = .ok (.iload_n 2, 1) := dk_28 (dk_at dksX0_prove_0 9 rfl rfl)
theorem dX0_prove_10 : decode cX0_prove 10 = .ok (.invokevirtual 110, 3) := dk_182 0 110 (dk_at dksX0_prove_0 10 rfl rfl)
theorem dX0_prove_13 : decode cX0_prove 13 = .ok (.ifCond .eq 12, 3) := dk_153 0 12 (dk_at dksX0_prove_0 13 rfl rfl)
theorem dX0_prove_16 : decode cX0_prove 16 = .ok (.aload_n 0, 1) := dk_42 (dk_at dksX0_prove_0 16 rfl rfl)
theorem dX0_prove_17 : decode cX0_prove 17 = .ok (.iload_n 1, 1) := dk_27 (dk_at dksX0_prove_0 17 rfl rfl)
theorem dX0_prove_18 : decode cX0_prove 18 = .ok (.iload_n 2, 1) := dk_28 (dk_at dksX0_prove_0 18 rfl rfl)
theorem dX0_prove_19 : decode cX0_prove 19 = .ok (.invokevirtual 113, 3) := dk_182 0 113 (dk_at dksX0_prove_0 19 rfl rfl)
theorem dX0_prove_22 : decode cX0_prove 22 = .ok (.ifCond .eq 5, 3) := dk_153 0 5 (dk_at dksX0_prove_1 0 rfl rfl)
theorem dX0_prove_25 : decode cX0_prove 25 = .ok (.iconst 0, 1) := dk_3 (dk_at dksX0_prove_1 3 rfl rfl)
theorem dX0_prove_26 : decode cX0_prove 26 = .ok (.ireturn, 1) := dk_172 (dk_at dksX0_prove_1 4 rfl rfl)
theorem dX0_prove_27 : decode cX0_prove 27 = .ok (.aload_n 0, 1) := dk_42 (dk_at dksX0_prove_1 5 rfl rfl)
theorem dX0_prove_28 : decode cX0_prove 28 = .ok (.getfield 12, 3) := dk_180 0 12 (dk_at dksX0_prove_1 6 rfl rfl)
theorem dX0_prove_31 : decode cX0_prove 31 = .ok (.invokevirtual 117, 3) := dk_182 0 117 (dk_at dksX0_prove_1 9 rfl rfl)
theorem dX0_prove_34 : decode cX0_prove 34 = .ok (.aload_n 0, 1) := dk_42 (dk_at dksX0_prove_1 12 rfl rfl)
theorem dX0_prove_35 : decode cX0_prove 35 = .ok (.getfield 12, 3) := dk_180 0 12 (dk_at dksX0_prove_1 13 rfl rfl)
theorem dX0_prove_38 : decode cX0_prove 38 = .ok (.getfield 78, 3) := dk_180 0 78 (dk_at dksX0_prove_1 16 rfl rfl)
theorem dX0_prove_41 : decode cX0_prove 41 = .ok (.bipush 80, 2) := dk_16 80 (dk_at dksX0_prove_1 19 rfl rfl)
theorem dX0_prove_43 : decode cX0_prove 43 = .ok (.iload_n 1, 1) := dk_27 (dk_at dksX0_prove_1 21 rfl rfl)
theorem dX0_prove_44 : decode cX0_prove 44 = .ok (.iadd, 1) := dk_96 (dk_at dksX0_prove_1 22 rfl rfl)
theorem dX0_prove_45 : decode cX0_prove 45 = .ok (.dup2, 1) := dk_92 (dk_at dksX0_prove_1 23 rfl rfl)
theorem dX0_prove_46 : decode cX0_prove 46 = .ok (.iaload, 1) := dk_46 (dk_at dksX0_prove_2 0 rfl rfl)
theorem dX0_prove_47 : decode cX0_prove 47 = .ok (.iconst 1, 1) := dk_4 (dk_at dksX0_prove_2 1 rfl rfl)
theorem dX0_prove_48 : decode cX0_prove 48 = .ok (.iload_n 2, 1) := dk_28 (dk_at dksX0_prove_2 2 rfl rfl)
theorem dX0_prove_49 : decode cX0_prove 49 = .ok (.ishl, 1) := dk_120 (dk_at dksX0_prove_2 3 rfl rfl)
theorem dX0_prove_50 : decode cX0_prove 50 = .ok (.ior, 1) := dk_128 (dk_at dksX0_prove_2 4 rfl rfl)
theorem dX0_prove_51 : decode cX0_prove 51 = .ok (.iastore, 1) := dk_79 (dk_at dksX0_prove_2 5 rfl rfl)
theorem dX0_prove_52 : decode cX0_prove 52 = .ok (.iconst 1, 1) := dk_4 (dk_at dksX0_prove_2 6 rfl rfl)
theorem dX0_prove_53 : decode cX0_prove 53 = .ok (.ireturn, 1) := dk_172 (dk_at dksX0_prove_2 7 rfl rfl)
def dkwX0_isBone_0 : List UInt8 := [27, 3, 42, 180, 0, 12, 180, 0, 71, 4, 46, 4, 100, 184, 0, 74, 172]
abbrev dktX0_isBone_0 : List UInt8 := dkwX0_isBone_0 ++ []
theorem dksX0_isBone_0 : cX0_isBone.data.toList.drop 0 = dktX0_isBone_0 := by decide +kernel
theorem dX0_isBone_0 : decode cX0_isBone 0 = .ok (.iload_n 1, 1) := dk_27 (dk_at dksX0_isBone_0 0 rfl rfl)
theorem dX0_isBone_1 : decode cX0_isBone 1 = .ok (.iconst 0, 1) := dk_3 (dk_at dksX0_isBone_0 1 rfl rfl)
theorem dX0_isBone_2 : decode cX0_isBone 2 = .ok (.aload_n 0, 1) := dk_42 (dk_at dksX0_isBone_0 2 rfl rfl)
theorem dX0_isBone_3 : decode cX0_isBone 3 = .ok (.getfield 12, 3) := dk_180 0 12 (dk_at dksX0_isBone_0 3 rfl rfl)
theorem dX0_isBone_6 : decode cX0_isBone 6 = .ok (.getfield 71, 3) := dk_180 0 71 (dk_at dksX0_isBone_0 6 rfl rfl)
theorem dX0_isBone_9 : decode cX0_isBone 9 = .ok (.iconst 1, 1) := dk_4 (dk_at dksX0_isBone_0 9 rfl rfl)
theorem dX0_isBone_10 : decode cX0_isBone 10 = .ok (.iaload, 1) := dk_46 (dk_at dksX0_isBone_0 10 rfl rfl)
theorem dX0_isBone_11 : decode cX0_isBone 11 = .ok (.iconst 1, 1) := dk_4 (dk_at dksX0_isBone_0 11 rfl rfl)
theorem dX0_isBone_12 : decode cX0_isBone 12 = .ok (.isub, 1) := dk_100 (dk_at dksX0_isBone_0 12 rfl rfl)
theorem dX0_isBone_13 : decode cX0_isBone 13 = .ok (.invokestatic 74, 3) := dk_184 0 74 (dk_at dksX0_isBone_0 13 rfl rfl)
theorem dX0_isBone_16 : decode cX0_isBone 16 = .ok (.ireturn, 1) := dk_172 (dk_at dksX0_isBone_0 16 rfl rfl)
def dkwX0_hasProof_1 : List UInt8 := [3, 172]
abbrev dktX0_hasProof_1 : List UInt8 := dkwX0_hasProof_1 ++ []
def dkwX0_hasProof_0 : List UInt8 := [42, 180, 0, 12, 180, 0, 78, 16, 80, 27, 96, 46, 28, 122, 4, 126, 4, 160, 0, 7, 4, 167, 0, 4]
abbrev dktX0_hasProof_0 : List UInt8 := dkwX0_hasProof_0 ++ dktX0_hasProof_1
theorem dksX0_hasProof_0 : cX0_hasProof.data.toList.drop 0 = dktX0_hasProof_0 := by decide +kernel
theorem dksX0_hasProof_1 : cX0_hasProof.data.toList.drop 24 = dktX0_hasProof_1 := dk_seg dksX0_hasProof_0 24 rfl rfl
theorem dX0_hasProof_0 : decode cX0_hasProof 0 = .ok (.aload_n 0, 1) := dk_42 (dk_at dksX0_hasProof_0 0 rfl rfl)
theorem dX0_hasProof_1 : decode cX0_hasProof 1 = .ok (.getfield 12, 3) := dk_180 0 12 (dk_at dksX0_hasProof_0 1 rfl rfl)
theorem dX0_hasProof_4 : decode cX0_hasProof 4 = .ok (.getfield 78, 3) := dk_180 0 78 (dk_at dksX0_hasProof_0 4 rfl rfl)
theorem dX0_hasProof_7 : decode cX0_hasProof 7 = .ok (.bipush 80, 2) := dk_16 80 (dk_at dksX0_hasProof_0 7 rfl rfl)
theorem dX0_hasProof_9 : decode cX0_hasProof 9 = .ok (.iload_n 1, 1) := dk_27 (dk_at dksX0_hasProof_0 9 rfl rfl)
theorem dX0_hasProof_10 : decode cX0_hasProof 10 = .ok (.iadd, 1) := dk_96 (dk_at dksX0_hasProof_0 10 rfl rfl)
theorem dX0_hasProof_11 : decode cX0_hasProof 11 = .ok (.iaload, 1) := dk_46 (dk_at dksX0_hasProof_0 11 rfl rfl)
theorem dX0_hasProof_12 : decode cX0_hasProof 12 = .ok (.iload_n 2, 1) := dk_28 (dk_at dksX0_hasProof_0 12 rfl rfl)
theorem dX0_hasProof_13 : decode cX0_hasProof 13 = .ok (.ishr, 1) := dk_122 (dk_at dksX0_hasProof_0 13 rfl rfl)
theorem dX0_hasProof_14 : decode cX0_hasProof 14 = .ok (.iconst 1, 1) := dk_4 (dk_at dksX0_hasProof_0 14 rfl rfl)
theorem dX0_hasProof_15 : decode cX0_hasProof 15 = .ok (.iand, 1) := dk_126 (dk_at dksX0_hasProof_0 15 rfl rfl)
theorem dX0_hasProof_16 : decode cX0_hasProof 16 = .ok (.iconst 1, 1) := dk_4 (dk_at dksX0_hasProof_0 16 rfl rfl)
theorem dX0_hasProof_17 : decode cX0_hasProof 17 = .ok (.if_icmp .ne 7, 3) := dk_160 0 7 (dk_at dksX0_hasProof_0 17 rfl rfl)
theorem dX0_hasProof_20 : decode cX0_hasProof 20 = .ok (.iconst 1, 1) := dk_4 (dk_at dksX0_hasProof_0 20 rfl rfl)
theorem dX0_hasProof_21 : decode cX0_hasProof 21 = .ok (.goto 4, 3) := dk_167 0 4 (dk_at dksX0_hasProof_0 21 rfl rfl)
theorem dX0_hasProof_24 : decode cX0_hasProof 24 = .ok (.iconst 0, 1) := dk_3 (dk_at dksX0_hasProof_1 0 rfl rfl)
theorem dX0_hasProof_25 : decode cX0_hasProof 25 = .ok (.ireturn, 1) := dk_172 (dk_at dksX0_hasProof_1 1 rfl rfl)
def dkwX0_feed_2 : List UInt8 := [172]
abbrev dktX0_feed_2 : List UInt8 := dkwX0_feed_2 ++ []
def dkwX0_feed_1 : List UInt8 := [182, 0, 123, 42, 29, 182, 0, 123, 42, 21, 4, 182, 0, 123, 42, 21, 5, 182, 0, 123, 42, 180, 0, 120]
abbrev dktX0_feed_1 : List UInt8 := dkwX0_feed_1 ++ dktX0_feed_2
def dkwX0_feed_0 : List UInt8 := [42, 180, 0, 120, 16, 20, 96, 17, 1, 44, 164, 0, 5, 2, 172, 42, 27, 182, 0, 123, 42, 28]
abbrev dktX0_feed_0 : List UInt8 := dkwX0_feed_0 ++ dktX0_feed_1
theorem dksX0_feed_0 : cX0_feed.data.toList.drop 0 = dktX0_feed_0 := by decide +kernel
theorem dksX0_feed_1 : cX0_feed.data.toList.drop 22 = dktX0_feed_1 := dk_seg dksX0_feed_0 22 rfl rfl
theorem dksX0_feed_2 : cX0_feed.data.toList.drop 46 = dktX0_feed_2 := dk_seg dksX0_feed_1 24 rfl rfl
theorem dX0_feed_0 : decode cX0_feed 0 = .ok (.aload_n 0, 1) := dk_42 (dk_at dksX0_feed_0 0 rfl rfl)
theorem dX0_feed_1 : decode cX0_feed 1 = .ok (.getfield 120, 3) := dk_180 0 120 (dk_at dksX0_feed_0 1 rfl rfl)
theorem dX0_feed_4 : decode cX0_feed 4 = .ok (.bipush 20, 2) := dk_16 20 (dk_at dksX0_feed_0 4 rfl rfl)
theorem dX0_feed_6 : decode cX0_feed 6 = .ok (.iadd, 1) := dk_96 (dk_at dksX0_feed_0 6 rfl rfl)
theorem dX0_feed_7 : decode cX0_feed 7 = .ok (.sipush 300, 3) := dk_17 1 44 (dk_at dksX0_feed_0 7 rfl rfl)
theorem dX0_feed_10 : decode cX0_feed 10 = .ok (.if_icmp .le 5, 3) := dk_164 0 5 (dk_at dksX0_feed_0 10 rfl rfl)
theorem dX0_feed_13 : decode cX0_feed 13 = .ok (.iconst (-1), 1) := dk_2 (dk_at dksX0_feed_0 13 rfl rfl)
theorem dX0_feed_14 : decode cX0_feed 14 = .ok (.ireturn, 1) := dk_172 (dk_at dksX0_feed_0 14 rfl rfl)
theorem dX0_feed_15 : decode cX0_feed 15 = .ok (.aload_n 0, 1) := dk_42 (dk_at dksX0_feed_0 15 rfl rfl)
theorem dX0_feed_16 : decode cX0_feed 16 = .ok (.iload_n 1, 1) := dk_27 (dk_at dksX0_feed_0 16 rfl rfl)
theorem dX0_feed_17 : decode cX0_feed 17 = .ok (.invokevirtual 123, 3) := dk_182 0 123 (dk_at dksX0_feed_0 17 rfl rfl)
theorem dX0_feed_20 : decode cX0_feed 20 = .ok (.aload_n 0, 1) := dk_42 (dk_at dksX0_feed_0 20 rfl rfl)
theorem dX0_feed_21 : decode cX0_feed 21 = .ok (.iload_n 2, 1) := dk_28 (dk_at dksX0_feed_0 21 rfl rfl)
theorem dX0_feed_22 : decode cX0_feed 22 = .ok (.invokevirtual 123, 3) := dk_182 0 123 (dk_at dksX0_feed_1 0 rfl rfl)
theorem dX0_feed_25 : decode cX0_feed 25 = .ok (.aload_n 0, 1) := dk_42 (dk_at dksX0_feed_1 3 rfl rfl)
theorem dX0_feed_26 : decode cX0_feed 26 = .ok (.iload_n 3, 1) := dk_29 (dk_at dksX0_feed_1 4 rfl rfl)
theorem dX0_feed_27 : decode cX0_feed 27 = .ok (.invokevirtual 123, 3) := dk_182 0 123 (dk_at dksX0_feed_1 5 rfl rfl)
theorem dX0_feed_30 : decode cX0_feed 30 = .ok (.aload_n 0, 1) := dk_42 (dk_at dksX0_feed_1 8 rfl rfl)
theorem dX0_feed_31 : decode cX0_feed 31 = .ok (.iload 4, 2) := dk_21 4 (dk_at dksX0_feed_1 9 rfl rfl)
theorem dX0_feed_33 : decode cX0_feed 33 = .ok (.invokevirtual 123, 3) := dk_182 0 123 (dk_at dksX0_feed_1 11 rfl rfl)
theorem dX0_feed_36 : decode cX0_feed 36 = .ok (.aload_n 0, 1) := dk_42 (dk_at dksX0_feed_1 14 rfl rfl)
theorem dX0_feed_37 : decode cX0_feed 37 = .ok (.iload 5, 2) := dk_21 5 (dk_at dksX0_feed_1 15 rfl rfl)
theorem dX0_feed_39 : decode cX0_feed 39 = .ok (.invokevirtual 123, 3) := dk_182 0 123 (dk_at dksX0_feed_1 17 rfl rfl)
theorem dX0_feed_42 : decode cX0_feed 42 = .ok (.aload_n 0, 1) := dk_42 (dk_at dksX0_feed_1 20 rfl rfl)
theorem dX0_feed_43 : decode cX0_feed 43 = .ok (.getfield 120, 3) := dk_180 0 120 (dk_at dksX0_feed_1 21 rfl rfl)
theorem dX0_feed_46 : decode cX0_feed 46 = .ok (.ireturn, 1) := dk_172 (dk_at dksX0_feed_2 0 rfl rfl)
def dkwX0_put_1 : List UInt8 := [180, 0, 120, 4, 96, 181, 0, 120, 132, 2, 248, 167, 255, 226, 177]
abbrev dktX0_put_1 : List UInt8 := dkwX0_put_1 ++ []
def dkwX0_put_0 : List UInt8 := [16, 24, 61, 28, 155, 0, 32, 42, 180, 0, 19, 42, 180, 0, 120, 27, 28, 122, 145, 84, 42, 89]
abbrev dktX0_put_0 : List UInt8 := dkwX0_put_0 ++ dktX0_put_1
theorem dksX0_put_0 : cX0_put.data.toList.drop 0 = dktX0_put_0 := by decide +kernel
theorem dksX0_put_1 : cX0_put.data.toList.drop 22 = dktX0_put_1 := dk_seg dksX0_put_0 22 rfl rfl
theorem dX0_put_0 : decode cX0_put 0 = .ok (.bipush 24, 2) := dk_16 24 (dk_at dksX0_put_0 0 rfl rfl)
theorem dX0_put_2 : decode cX0_put 2 = .ok (.istore_n 2, 1) := dk_61 (dk_at dksX0_put_0 2 rfl rfl)
theorem dX0_put_3 : decode cX0_put 3 = .ok (.iload_n 2, 1) := dk_28 (dk_at dksX0_put_0 3 rfl rfl)
theorem dX0_put_4 : decode cX0_put 4 = .ok (.ifCond .lt 32, 3) := dk_155 0 32 (dk_at dksX0_put_0 4 rfl rfl)
theorem dX0_put_7 : decode cX0_put 7 = .ok (.aload_n 0, 1) := dk_42 (dk_at dksX0_put_0 7 rfl rfl)
theorem dX0_put_8 : decode cX0_put 8 = .ok (.getfield 19, 3) := dk_180 0 19 (dk_at dksX0_put_0 8 rfl rfl)
theorem dX0_put_11 : decode cX0_put 11 = .ok (.aload_n 0, 1) := dk_42 (dk_at dksX0_put_0 11 rfl rfl)
theorem dX0_put_12 : decode cX0_put 12 = .ok (.getfield 120, 3) := dk_180 0 120 (dk_at dksX0_put_0 12 rfl rfl)
theorem dX0_put_15 : decode cX0_put 15 = .ok (.iload_n 1, 1) := dk_27 (dk_at dksX0_put_0 15 rfl rfl)
theorem dX0_put_16 : decode cX0_put 16 = .ok (.iload_n 2, 1) := dk_28 (dk_at dksX0_put_0 16 rfl rfl)
theorem dX0_put_17 : decode cX0_put 17 = .ok (.ishr, 1) := dk_122 (dk_at dksX0_put_0 17 rfl rfl)
theorem dX0_put_18 : decode cX0_put 18 = .ok (.i2b, 1) := dk_145 (dk_at dksX0_put_0 18 rfl rfl)
theorem dX0_put_19 : decode cX0_put 19 = .ok (.bastore, 1) := dk_84 (dk_at dksX0_put_0 19 rfl rfl)
theorem dX0_put_20 : decode cX0_put 20 = .ok (.aload_n 0, 1) := dk_42 (dk_at dksX0_put_0 20 rfl rfl)
theorem dX0_put_21 : decode cX0_put 21 = .ok (.dup, 1) := dk_89 (dk_at dksX0_put_0 21 rfl rfl)
theorem dX0_put_22 : decode cX0_put 22 = .ok (.getfield 120, 3) := dk_180 0 120 (dk_at dksX0_put_1 0 rfl rfl)
theorem dX0_put_25 : decode cX0_put 25 = .ok (.iconst 1, 1) := dk_4 (dk_at dksX0_put_1 3 rfl rfl)
theorem dX0_put_26 : decode cX0_put 26 = .ok (.iadd, 1) := dk_96 (dk_at dksX0_put_1 4 rfl rfl)
theorem dX0_put_27 : decode cX0_put 27 = .ok (.putfield 120, 3) := dk_181 0 120 (dk_at dksX0_put_1 5 rfl rfl)
theorem dX0_put_30 : decode cX0_put 30 = .ok (.iinc 2 (-8), 3) := dk_132 2 248 (dk_at dksX0_put_1 8 rfl rfl)
theorem dX0_put_33 : decode cX0_put 33 = .ok (.goto (-30), 3) := dk_167 255 226 (dk_at dksX0_put_1 11 rfl rfl)
theorem dX0_put_36 : decode cX0_put 36 = .ok (.return_, 1) := dk_177 (dk_at dksX0_put_1 14 rfl rfl)
def dkwX0_end_0 : List UInt8 := [27, 3, 42, 180, 0, 120, 184, 0, 74, 154, 0, 5, 2, 172, 42, 27, 181, 0, 120, 27, 172]
abbrev dktX0_end_0 : List UInt8 := dkwX0_end_0 ++ []
theorem dksX0_end_0 : cX0_end.data.toList.drop 0 = dktX0_end_0 := by decide +kernel
theorem dX0_end_0 : decode cX0_end 0 = .ok (.iload_n 1, 1) := dk_27 (dk_at dksX0_end_0 0 rfl rfl)
theorem dX0_end_1 : decode cX0_end 1 = .ok (.iconst 0, 1) := dk_3 (dk_at dksX0_end_0 1 rfl rfl)
theorem dX0_end_2 : decode cX0_end 2 = .ok (.aload_n 0, 1) := dk_42 (dk_at dksX0_end_0 2 rfl rfl)
theorem dX0_end_3 : decode cX0_end 3 = .ok (.getfield 120, 3) := dk_180 0 120 (dk_at dksX0_end_0 3 rfl rfl)
theorem dX0_end_6 : decode cX0_end 6 = .ok (.invokestatic 74, 3) := dk_184 0 74 (dk_at dksX0_end_0 6 rfl rfl)
theorem dX0_end_9 : decode cX0_end 9 = .ok (.ifCond .ne 5, 3) := dk_154 0 5 (dk_at dksX0_end_0 9 rfl rfl)
theorem dX0_end_12 : decode cX0_end 12 = .ok (.iconst (-1), 1) := dk_2 (dk_at dksX0_end_0 12 rfl rfl)
theorem dX0_end_13 : decode cX0_end 13 = .ok (.ireturn, 1) := dk_172 (dk_at dksX0_end_0 13 rfl rfl)
theorem dX0_end_14 : decode cX0_end 14 = .ok (.aload_n 0, 1) := dk_42 (dk_at dksX0_end_0 14 rfl rfl)
theorem dX0_end_15 : decode cX0_end 15 = .ok (.iload_n 1, 1) := dk_27 (dk_at dksX0_end_0 15 rfl rfl)
theorem dX0_end_16 : decode cX0_end 16 = .ok (.putfield 120, 3) := dk_181 0 120 (dk_at dksX0_end_0 16 rfl rfl)
theorem dX0_end_19 : decode cX0_end 19 = .ok (.iload_n 1, 1) := dk_27 (dk_at dksX0_end_0 19 rfl rfl)
theorem dX0_end_20 : decode cX0_end 20 = .ok (.ireturn, 1) := dk_172 (dk_at dksX0_end_0 20 rfl rfl)
def dkwX0_text_5 : List UInt8 := [79, 42, 180, 0, 12, 180, 0, 71, 5, 46, 4, 100, 172]
abbrev dktX0_text_5 : List UInt8 := dkwX0_text_5 ++ []
def dkwX0_text_4 : List UInt8 := [29, 172, 58, 4, 42, 3, 181, 0, 120, 25, 4, 191, 42, 180, 0, 12, 180, 0, 71, 5, 92, 46, 4, 96]
abbrev dktX0_text_4 : List UInt8 := dkwX0_text_4 ++ dktX0_text_5
def dkwX0_text_3 : List UInt8 := [77, 42, 44, 180, 0, 142, 181, 0, 23, 42, 44, 180, 0, 143, 181, 0, 27, 2, 62, 42, 3, 181, 0, 120]
abbrev dktX0_text_3 : List UInt8 := dkwX0_text_3 ++ dktX0_text_4
def dkwX0_text_2 : List UInt8 := [187, 0, 131, 89, 42, 180, 0, 19, 27, 183, 0, 133, 182, 0, 136, 83, 42, 3, 181, 0, 120, 167, 0, 39]
abbrev dktX0_text_2 : List UInt8 := dkwX0_text_2 ++ dktX0_text_3
def dkwX0_text_1 : List UInt8 := [181, 0, 23, 42, 2, 181, 0, 27, 42, 180, 0, 12, 180, 0, 127, 42, 180, 0, 12, 180, 0, 71, 5, 46]
abbrev dktX0_text_1 : List UInt8 := dkwX0_text_1 ++ dktX0_text_2
def dkwX0_text_0 : List UInt8 := [42, 180, 0, 12, 180, 0, 71, 5, 46, 7, 160, 0, 5, 2, 172, 42, 180, 0, 120, 60, 42, 3]
abbrev dktX0_text_0 : List UInt8 := dkwX0_text_0 ++ dktX0_text_1
theorem dksX0_text_0 : cX0_text.data.toList.drop 0 = dktX0_text_0 := by decide +kernel
theorem dksX0_text_1 : cX0_text.data.toList.drop 22 = dktX0_text_1 := dk_seg dksX0_text_0 22 rfl rfl
theorem dksX0_text_2 : cX0_text.data.toList.drop 46 = dktX0_text_2 := dk_seg dksX0_text_1 24 rfl rfl
theorem dksX0_text_3 : cX0_text.data.toList.drop 70 = dktX0_text_3 := dk_seg dksX0_text_2 24 rfl rfl
theorem dksX0_text_4 : cX0_text.data.toList.drop 94 = dktX0_text_4 := dk_seg dksX0_text_3 24 rfl rfl
theorem dksX0_text_5 : cX0_text.data.toList.drop 118 = dktX0_text_5 := dk_seg dksX0_text_4 24 rfl rfl
theorem dX0_text_0 : decode cX0_text 0 = .ok (.aload_n 0, 1) := dk_42 (dk_at dksX0_text_0 0 rfl rfl)
theorem dX0_text_1 : decode cX0_text 1 = .ok (.getfield 12, 3) := dk_180 0 12 (dk_at dksX0_text_0 1 rfl rfl)
theorem dX0_text_4 : decode cX0_text 4 = .ok (.getfield 71, 3) := dk_180 0 71 (dk_at dksX0_text_0 4 rfl rfl)
theorem dX0_text_7 : decode cX0_text 7 = .ok (.iconst 2, 1) := dk_5 (dk_at dksX0_text_0 7 rfl rfl)
theorem dX0_text_8 : decode cX0_text 8 = .ok (.iaload, 1) := dk_46 (dk_at dksX0_text_0 8 rfl rfl)
theorem dX0_text_9 : decode cX0_text 9 = .ok (.iconst 4, 1) := dk_7 (dk_at dksX0_text_0 9 rfl rfl)
theorem dX0_text_10 : decode cX0_text 10 = .ok (.if_icmp .ne 5, 3) := dk_160 0 5 (dk_at dksX0_text_0 10 rfl rfl)
theorem dX0_text_13 : decode cX0_text 13 = .ok (.iconst (-1), 1) := dk_2 (dk_at dksX0_text_0 13 rfl rfl)
theorem dX0_text_14 : decode cX0_text 14 = .ok (.ireturn, 1) := dk_172 (dk_at dksX0_text_0 14 rfl rfl)
theorem dX0_text_15 : decode cX0_text 15 = .ok (.aload_n 0, 1) := dk_42 (dk_at dksX0_text_0 15 rfl rfl)
theorem dX0_text_16 : decode cX0_text 16 = .ok (.getfield 120, 3) := dk_180 0 120 (dk_at dksX0_text_0 16 rfl rfl)
theorem dX0_text_19 : decode cX0_text 19 = .ok (.istore_n 1, 1) := dk_60 (dk_at dksX0_text_0 19 rfl rfl)
theorem dX0_text_20 : decode cX0_text 20 = .ok (.aload_n 0, 1) := dk_42 (dk_at dksX0_text_0 20 rfl rfl)
theorem dX0_text_21 : decode cX0_text 21 = .ok (.iconst 0, 1) := dk_3 (dk_at dksX0_text_0 21 rfl rfl)
theorem dX0_text_22 : decode cX0_text 22 = .ok (.putfield 23, 3) := dk_181 0 23 (dk_at dksX0_text_1 0 rfl rfl)
theorem dX0_text_25 : decode cX0_text 25 = .ok (.aload_n 0, 1) := dk_42 (dk_at dksX0_text_1 3 rfl rfl)
theorem dX0_text_26 : decode cX0_text 26 = .ok (.iconst (-1), 1) := dk_2 (dk_at dksX0_text_1 4 rfl rfl)
theorem dX0_text_27 : decode cX0_text 27 = .ok (.putfield 27, 3) := dk_181 0 27 (dk_at dksX0_text_1 5 rfl rfl)
theorem dX0_text_30 : decode cX0_text 30 = .ok (.aload_n 0, 1) := dk_42 (dk_at dksX0_text_1 8 rfl rfl)
theorem dX0_text_31 : decode cX0_text 31 = .ok (.getfield 12, 3) := dk_180 0 12 (dk_at dksX0_text_1 9 rfl rfl)
theorem dX0_text_34 : decode cX0_text 34 = .ok (.getfield 127, 3) := dk_180 0 127 (dk_at dksX0_text_1 12 rfl rfl)
theorem dX0_text_37 : decode cX0_text 37 = .ok (.aload_n 0, 1) := dk_42 (dk_at dksX0_text_1 15 rfl rfl)
theorem dX0_text_38 : decode cX0_text 38 = .ok (.getfield 12, 3) := dk_180 0 12 (dk_at dksX0_text_1 16 rfl rfl)
theorem dX0_text_41 : decode cX0_text 41 = .ok (.getfield 71, 3) := dk_180 0 71 (dk_at dksX0_text_1 19 rfl rfl)
theorem dX0_text_44 : decode cX0_text 44 = .ok (.iconst 2, 1) := dk_5 (dk_at dksX0_text_1 22 rfl rfl)
theorem dX0_text_45 : decode cX0_text 45 = .ok (.iaload, 1) := dk_46 (dk_at dksX0_text_1 23 rfl rfl)
theorem dX0_text_46 : decode cX0_text 46 = .ok (.new 131, 3) := dk_187 0 131 (dk_at dksX0_text_2 0 rfl rfl)
theorem dX0_text_49 : decode cX0_text 49 = .ok (.dup, 1) := dk_89 (dk_at dksX0_text_2 3 rfl rfl)
theorem dX0_text_50 : decode cX0_text 50 = .ok (.aload_n 0, 1) := dk_42 (dk_at dksX0_text_2 4 rfl rfl)
theorem dX0_text_51 : decode cX0_text 51 = .ok (.getfield 19, 3) := dk_180 0 19 (dk_at dksX0_text_2 5 rfl rfl)
theorem dX0_text_54 : decode cX0_text 54 = .ok (.iload_n 1, 1) := dk_27 (dk_at dksX0_text_2 8 rfl rfl)
theorem dX0_text_55 : decode cX0_text 55 = .ok (.invokespecial 133, 3) := dk_183 0 133 (dk_at dksX0_text_2 9 rfl rfl)
theorem dX0_text_58 : decode cX0_text 58 = .ok (.invokevirtual 136, 3) := dk_182 0 136 (dk_at dksX0_text_2 12 rfl rfl)
theorem dX0_text_61 : decode cX0_text 61 = .ok (.aastore, 1) := dk_83 (dk_at dksX0_text_2 15 rfl rfl)
theorem dX0_text_62 : decode cX0_text 62 = .ok (.aload_n 0, 1) := dk_42 (dk_at dksX0_text_2 16 rfl rfl)
theorem dX0_text_63 : decode cX0_text 63 = .ok (.iconst 0, 1) := dk_3 (dk_at dksX0_text_2 17 rfl rfl)
theorem dX0_text_64 : decode cX0_text 64 = .ok (.putfield 120, 3) := dk_181 0 120 (dk_at dksX0_text_2 18 rfl rfl)
theorem dX0_text_67 : decode cX0_text 67 = .ok (.goto 39, 3) := dk_167 0 39 (dk_at dksX0_text_2 21 rfl rfl)
theorem dX0_text_70 : decode cX0_text 70 = .ok (.astore_n 2, 1) := dk_77 (dk_at dksX0_text_3 0 rfl rfl)
theorem dX0_text_71 : decode cX0_text 71 = .ok (.aload_n 0, 1) := dk_42 (dk_at dksX0_text_3 1 rfl rfl)
theorem dX0_text_72 : decode cX0_text 72 = .ok (.aload_n 2, 1) := dk_44 (dk_at dksX0_text_3 2 rfl rfl)
theorem dX0_text_73 : decode cX0_text 73 = .ok (.getfield 142, 3) := dk_180 0 142 (dk_at dksX0_text_3 3 rfl rfl)
theorem dX0_text_76 : decode cX0_text 76 = .ok (.putfield 23, 3) := dk_181 0 23 (dk_at dksX0_text_3 6 rfl rfl)
theorem dX0_text_79 : decode cX0_text 79 = .ok (.aload_n 0, 1) := dk_42 (dk_at dksX0_text_3 9 rfl rfl)
theorem dX0_text_80 : decode cX0_text 80 = .ok (.aload_n 2, 1) := dk_44 (dk_at dksX0_text_3 10 rfl rfl)
theorem dX0_text_81 : decode cX0_text 81 = .ok (.getfield 143, 3) := dk_180 0 143 (dk_at dksX0_text_3 11 rfl rfl)
theorem dX0_text_84 : decode cX0_text 84 = .ok (.putfield 27, 3) := dk_181 0 27 (dk_at dksX0_text_3 14 rfl rfl)
theorem dX0_text_87 : decode cX0_text 87 = .ok (.iconst (-1), 1) := dk_2 (dk_at dksX0_text_3 17 rfl rfl)
theorem dX0_text_88 : decode cX0_text 88 = .ok (.istore_n 3, 1) := dk_62 (dk_at dksX0_text_3 18 rfl rfl)
theorem dX0_text_89 : decode cX0_text 89 = .ok (.aload_n 0, 1) := dk_42 (dk_at dksX0_text_3 19 rfl rfl)
theorem dX0_text_90 : decode cX0_text 90 = .ok (.iconst 0, 1) := dk_3 (dk_at dksX0_text_3 20 rfl rfl)
theorem dX0_text_91 : decode cX0_text 91 = .ok (.putfield 120, 3) := dk_181 0 120 (dk_at dksX0_text_3 21 rfl rfl)
theorem dX0_text_94 : decode cX0_text 94 = .ok (.iload_n 3, 1) := dk_29 (dk_at dksX0_text_4 0 rfl rfl)
theorem dX0_text_95 : decode cX0_text 95 = .ok (.ireturn, 1) := dk_172 (dk_at dksX0_text_4 1 rfl rfl)
theorem dX0_text_96 : decode cX0_text 96 = .ok (.astore 4, 2) := dk_58 4 (dk_at dksX0_text_4 2 rfl rfl)
theorem dX0_text_98 : decode cX0_text 98 = .ok (.aload_n 0, 1) := dk_42 (dk_at dksX0_text_4 4 rfl rfl)
theorem dX0_text_99 : decode cX0_text 99 = .ok (.iconst 0, 1) := dk_3 (dk_at dksX0_text_4 5 rfl rfl)
theorem dX0_text_100 : decode cX0_text 100 = .ok (.putfield 120, 3) := dk_181 0 120 (dk_at dksX0_text_4 6 rfl rfl)
theorem dX0_text_103 : decode cX0_text 103 = .ok (.aload 4, 2) := dk_25 4 (dk_at dksX0_text_4 9 rfl rfl)
theorem dX0_text_105 : decode cX0_text 105 = .ok (.athrow, 1) := dk_191 (dk_at dksX0_text_4 11 rfl rfl)
theorem dX0_text_106 : decode cX0_text 106 = .ok (.aload_n 0, 1) := dk_42 (dk_at dksX0_text_4 12 rfl rfl)
theorem dX0_text_107 : decode cX0_text 107 = .ok (.getfield 12, 3) := dk_180 0 12 (dk_at dksX0_text_4 13 rfl rfl)
theorem dX0_text_110 : decode cX0_text 110 = .ok (.getfield 71, 3) := dk_180 0 71 (dk_at dksX0_text_4 16 rfl rfl)
theorem dX0_text_113 : decode cX0_text 113 = .ok (.iconst 2, 1) := dk_5 (dk_at dksX0_text_4 19 rfl rfl)
theorem dX0_text_114 : decode cX0_text 114 = .ok (.dup2, 1) := dk_92 (dk_at dksX0_text_4 20 rfl rfl)
theorem dX0_text_115 : decode cX0_text 115 = .ok (.iaload, 1) := dk_46 (dk_at dksX0_text_4 21 rfl rfl)
theorem dX0_text_116 : decode cX0_text 116 = .ok (.iconst 1, 1) := dk_4 (dk_at dksX0_text_4 22 rfl rfl)
theorem dX0_text_117 : decode cX0_text 117 = .ok (.iadd, 1) := dk_96 (dk_at dksX0_text_4 23 rfl rfl)
theorem dX0_text_118 : decode cX0_text 118 = .ok (.iastore, 1) := dk_79 (dk_at dksX0_text_5 0 rfl rfl)
theorem dX0_text_119 : decode cX0_text 119 = .ok (.aload_n 0, 1) := dk_42 (dk_at dksX0_text_5 1 rfl rfl)
theorem dX0_text_120 : decode cX0_text 120 = .ok (.getfield 12, 3) := dk_180 0 12 (dk_at dksX0_text_5 2 rfl rfl)
theorem dX0_text_123 : decode cX0_text 123 = .ok (.getfield 71, 3) := dk_180 0 71 (dk_at dksX0_text_5 5 rfl rfl)
theorem dX0_text_126 : decode cX0_text 126 = .ok (.iconst 2, 1) := dk_5 (dk_at dksX0_text_5 8 rfl rfl)
theorem dX0_text_127 : decode cX0_text 127 = .ok (.iaload, 1) := dk_46 (dk_at dksX0_text_5 9 rfl rfl)
theorem dX0_text_128 : decode cX0_text 128 = .ok (.iconst 1, 1) := dk_4 (dk_at dksX0_text_5 10 rfl rfl)
theorem dX0_text_129 : decode cX0_text 129 = .ok (.isub, 1) := dk_100 (dk_at dksX0_text_5 11 rfl rfl)
theorem dX0_text_130 : decode cX0_text 130 = .ok (.ireturn, 1) := dk_172 (dk_at dksX0_text_5 12 rfl rfl)
def dkwX0_fault_1 : List UInt8 := [172]
abbrev dktX0_fault_1 : List UInt8 := dkwX0_fault_1 ++ []
def dkwX0_fault_0 : List UInt8 := [27, 154, 0, 10, 42, 180, 0, 23, 167, 0, 16, 27, 4, 160, 0, 10, 42, 180, 0, 27, 167, 0, 4, 2]
abbrev dktX0_fault_0 : List UInt8 := dkwX0_fault_0 ++ dktX0_fault_1
theorem dksX0_fault_0 : cX0_fault.data.toList.drop 0 = dktX0_fault_0 := by decide +kernel
theorem dksX0_fault_1 : cX0_fault.data.toList.drop 24 = dktX0_fault_1 := dk_seg dksX0_fault_0 24 rfl rfl
theorem dX0_fault_0 : decode cX0_fault 0 = .ok (.iload_n 1, 1) := dk_27 (dk_at dksX0_fault_0 0 rfl rfl)
theorem dX0_fault_1 : decode cX0_fault 1 = .ok (.ifCond .ne 10, 3) := dk_154 0 10 (dk_at dksX0_fault_0 1 rfl rfl)
theorem dX0_fault_4 : decode cX0_fault 4 = .ok (.aload_n 0, 1) := dk_42 (dk_at dksX0_fault_0 4 rfl rfl)
theorem dX0_fault_5 : decode cX0_fault 5 = .ok (.getfield 23, 3) := dk_180 0 23 (dk_at dksX0_fault_0 5 rfl rfl)
theorem dX0_fault_8 : decode cX0_fault 8 = .ok (.goto 16, 3) := dk_167 0 16 (dk_at dksX0_fault_0 8 rfl rfl)
theorem dX0_fault_11 : decode cX0_fault 11 = .ok (.iload_n 1, 1) := dk_27 (dk_at dksX0_fault_0 11 rfl rfl)
theorem dX0_fault_12 : decode cX0_fault 12 = .ok (.iconst 1, 1) := dk_4 (dk_at dksX0_fault_0 12 rfl rfl)
theorem dX0_fault_13 : decode cX0_fault 13 = .ok (.if_icmp .ne 10, 3) := dk_160 0 10 (dk_at dksX0_fault_0 13 rfl rfl)
theorem dX0_fault_16 : decode cX0_fault 16 = .ok (.aload_n 0, 1) := dk_42 (dk_at dksX0_fault_0 16 rfl rfl)
theorem dX0_fault_17 : decode cX0_fault 17 = .ok (.getfield 27, 3) := dk_180 0 27 (dk_at dksX0_fault_0 17 rfl rfl)
theorem dX0_fault_20 : decode cX0_fault 20 = .ok (.goto 4, 3) := dk_167 0 4 (dk_at dksX0_fault_0 20 rfl rfl)
theorem dX0_fault_23 : decode cX0_fault 23 = .ok (.iconst (-1), 1) := dk_2 (dk_at dksX0_fault_0 23 rfl rfl)
theorem dX0_fault_24 : decode cX0_fault 24 = .ok (.ireturn, 1) := dk_172 (dk_at dksX0_fault_1 0 rfl rfl)
def dkwX0_by_1 : List UInt8 := [79, 4, 172]
abbrev dktX0_by_1 : List UInt8 := dkwX0_by_1 ++ []
def dkwX0_by_0 : List UInt8 := [27, 2, 159, 0, 13, 42, 27, 182, 0, 146, 154, 0, 5, 3, 172, 42, 180, 0, 12, 180, 0, 71, 6, 27]
abbrev dktX0_by_0 : List UInt8 := dkwX0_by_0 ++ dktX0_by_1
theorem dksX0_by_0 : cX0_by.data.toList.drop 0 = dktX0_by_0 := by decide +kernel
theorem dksX0_by_1 : cX0_by.data.toList.drop 24 = dktX0_by_1 := dk_seg dksX0_by_0 24 rfl rfl
theorem dX0_by_0 : decode cX0_by 0 = .ok (.iload_n 1, 1) := dk_27 (dk_at dksX0_by_0 0 rfl rfl)
theorem dX0_by_1 : decode cX0_by 1 = .ok (.iconst (-1), 1) := dk_2 (dk_at dksX0_by_0 1 rfl rfl)
theorem dX0_by_2 : decode cX0_by 2 = .ok (.if_icmp .eq 13, 3) := dk_159 0 13 (dk_at dksX0_by_0 2 rfl rfl)
theorem dX0_by_5 : decode cX0_by 5 = .ok (.aload_n 0, 1) := dk_42 (dk_at dksX0_by_0 5 rfl rfl)
theorem dX0_by_6 : decode cX0_by 6 = .ok (.iload_n 1, 1) := dk_27 (dk_at dksX0_by_0 6 rfl rfl)
theorem dX0_by_7 : decode cX0_by 7 = .ok (.invokevirtual 146, 3) := dk_182 0 146 (dk_at dksX0_by_0 7 rfl rfl)
theorem dX0_by_10 : decode cX0_by 10 = .ok (.ifCond .ne 5, 3) := dk_154 0 5 (dk_at dksX0_by_0 10 rfl rfl)
theorem dX0_by_13 : decode cX0_by 13 = .ok (.iconst 0, 1) := dk_3 (dk_at dksX0_by_0 13 rfl rfl)
theorem dX0_by_14 : decode cX0_by 14 = .ok (.ireturn, 1) := dk_172 (dk_at dksX0_by_0 14 rfl rfl)
theorem dX0_by_15 : decode cX0_by 15 = .ok (.aload_n 0, 1) := dk_42 (dk_at dksX0_by_0 15 rfl rfl)
theorem dX0_by_16 : decode cX0_by 16 = .ok (.getfield 12, 3) := dk_180 0 12 (dk_at dksX0_by_0 16 rfl rfl)
theorem dX0_by_19 : decode cX0_by 19 = .ok (.getfield 71, 3) := dk_180 0 71 (dk_at dksX0_by_0 19 rfl rfl)
theorem dX0_by_22 : decode cX0_by 22 = .ok (.iconst 3, 1) := dk_6 (dk_at dksX0_by_0 22 rfl rfl)
theorem dX0_by_23 : decode cX0_by 23 = .ok (.iload_n 1, 1) := dk_27 (dk_at dksX0_by_0 23 rfl rfl)
theorem dX0_by_24 : decode cX0_by 24 = .ok (.iastore, 1) := dk_79 (dk_at dksX0_by_1 0 rfl rfl)
theorem dX0_by_25 : decode cX0_by 25 = .ok (.iconst 1, 1) := dk_4 (dk_at dksX0_by_1 1 rfl rfl)
theorem dX0_by_26 : decode cX0_by 26 = .ok (.ireturn, 1) := dk_172 (dk_at dksX0_by_1 2 rfl rfl)
def dkwX0_isText_0 : List UInt8 := [27, 3, 42, 180, 0, 12, 180, 0, 71, 5, 46, 4, 100, 184, 0, 74, 172]
abbrev dktX0_isText_0 : List UInt8 := dkwX0_isText_0 ++ []
theorem dksX0_isText_0 : cX0_isText.data.toList.drop 0 = dktX0_isText_0 := by decide +kernel
theorem dX0_isText_0 : decode cX0_isText 0 = .ok (.iload_n 1, 1) := dk_27 (dk_at dksX0_isText_0 0 rfl rfl)
theorem dX0_isText_1 : decode cX0_isText 1 = .ok (.iconst 0, 1) := dk_3 (dk_at dksX0_isText_0 1 rfl rfl)
theorem dX0_isText_2 : decode cX0_isText 2 = .ok (.aload_n 0, 1) := dk_42 (dk_at dksX0_isText_0 2 rfl rfl)
theorem dX0_isText_3 : decode cX0_isText 3 = .ok (.getfield 12, 3) := dk_180 0 12 (dk_at dksX0_isText_0 3 rfl rfl)
theorem dX0_isText_6 : decode cX0_isText 6 = .ok (.getfield 71, 3) := dk_180 0 71 (dk_at dksX0_isText_0 6 rfl rfl)
theorem dX0_isText_9 : decode cX0_isText 9 = .ok (.iconst 2, 1) := dk_5 (dk_at dksX0_isText_0 9 rfl rfl)
theorem dX0_isText_10 : decode cX0_isText 10 = .ok (.iaload, 1) := dk_46 (dk_at dksX0_isText_0 10 rfl rfl)
theorem dX0_isText_11 : decode cX0_isText 11 = .ok (.iconst 1, 1) := dk_4 (dk_at dksX0_isText_0 11 rfl rfl)
theorem dX0_isText_12 : decode cX0_isText 12 = .ok (.isub, 1) := dk_100 (dk_at dksX0_isText_0 12 rfl rfl)
theorem dX0_isText_13 : decode cX0_isText 13 = .ok (.invokestatic 74, 3) := dk_184 0 74 (dk_at dksX0_isText_0 13 rfl rfl)
theorem dX0_isText_16 : decode cX0_isText 16 = .ok (.ireturn, 1) := dk_172 (dk_at dksX0_isText_0 16 rfl rfl)
def dkwX0_lend_0 : List UInt8 := [42, 27, 28, 29, 182, 0, 163, 153, 0, 12, 42, 27, 7, 182, 0, 149, 167, 0, 4, 2, 172]
abbrev dktX0_lend_0 : List UInt8 := dkwX0_lend_0 ++ []
theorem dksX0_lend_0 : cX0_lend.data.toList.drop 0 = dktX0_lend_0 := by decide +kernel
theorem dX0_lend_0 : decode cX0_lend 0 = .ok (.aload_n 0, 1) := dk_42 (dk_at dksX0_lend_0 0 rfl rfl)
theorem dX0_lend_1 : decode cX0_lend 1 = .ok (.iload_n 1, 1) := dk_27 (dk_at dksX0_lend_0 1 rfl rfl)
theorem dX0_lend_2 : decode cX0_lend 2 = .ok (.iload_n 2, 1) := dk_28 (dk_at dksX0_lend_0 2 rfl rfl)
theorem dX0_lend_3 : decode cX0_lend 3 = .ok (.iload_n 3, 1) := dk_29 (dk_at dksX0_lend_0 3 rfl rfl)
theorem dX0_lend_4 : decode cX0_lend 4 = .ok (.invokevirtual 163, 3) := dk_182 0 163 (dk_at dksX0_lend_0 4 rfl rfl)
theorem dX0_lend_7 : decode cX0_lend 7 = .ok (.ifCond .eq 12, 3) := dk_153 0 12 (dk_at dksX0_lend_0 7 rfl rfl)
theorem dX0_lend_10 : decode cX0_lend 10 = .ok (.aload_n 0, 1) := dk_42 (dk_at dksX0_lend_0 10 rfl rfl)
theorem dX0_lend_11 : decode cX0_lend 11 = .ok (.iload_n 1, 1) := dk_27 (dk_at dksX0_lend_0 11 rfl rfl)
theorem dX0_lend_12 : decode cX0_lend 12 = .ok (.iconst 4, 1) := dk_7 (dk_at dksX0_lend_0 12 rfl rfl)
theorem dX0_lend_13 : decode cX0_lend 13 = .ok (.invokevirtual 149, 3) := dk_182 0 149 (dk_at dksX0_lend_0 13 rfl rfl)
theorem dX0_lend_16 : decode cX0_lend 16 = .ok (.goto 4, 3) := dk_167 0 4 (dk_at dksX0_lend_0 16 rfl rfl)
theorem dX0_lend_19 : decode cX0_lend 19 = .ok (.iconst (-1), 1) := dk_2 (dk_at dksX0_lend_0 19 rfl rfl)
theorem dX0_lend_20 : decode cX0_lend 20 = .ok (.ireturn, 1) := dk_172 (dk_at dksX0_lend_0 20 rfl rfl)
def dkwX0_lends_1 : List UInt8 := [182, 0, 97, 42, 27, 7, 42, 182, 0, 156, 29, 96, 182, 0, 97, 4, 172]
abbrev dktX0_lends_1 : List UInt8 := dkwX0_lends_1 ++ []
def dkwX0_lends_0 : List UInt8 := [42, 27, 28, 29, 182, 0, 160, 154, 0, 5, 3, 172, 42, 180, 0, 12, 182, 0, 117, 42, 27, 6, 28]
abbrev dktX0_lends_0 : List UInt8 := dkwX0_lends_0 ++ dktX0_lends_1
theorem dksX0_lends_0 : cX0_lends.data.toList.drop 0 = dktX0_lends_0 := by decide +kernel
theorem dksX0_lends_1 : cX0_lends.data.toList.drop 23 = dktX0_lends_1 := dk_seg dksX0_lends_0 23 rfl rfl
theorem dX0_lends_0 : decode cX0_lends 0 = .ok (.aload_n 0, 1) := dk_42 (dk_at dksX0_lends_0 0 rfl rfl)
theorem dX0_lends_1 : decode cX0_lends 1 = .ok (.iload_n 1, 1) := dk_27 (dk_at dksX0_lends_0 1 rfl rfl)
theorem dX0_lends_2 : decode cX0_lends 2 = .ok (.iload_n 2, 1) := dk_28 (dk_at dksX0_lends_0 2 rfl rfl)
theorem dX0_lends_3 : decode cX0_lends 3 = .ok (.iload_n 3, 1) := dk_29 (dk_at dksX0_lends_0 3 rfl rfl)
theorem dX0_lends_4 : decode cX0_lends 4 = .ok (.invokevirtual 160, 3) := dk_182 0 160 (dk_at dksX0_lends_0 4 rfl rfl)
theorem dX0_lends_7 : decode cX0_lends 7 = .ok (.ifCond .ne 5, 3) := dk_154 0 5 (dk_at dksX0_lends_0 7 rfl rfl)
theorem dX0_lends_10 : decode cX0_lends 10 = .ok (.iconst 0, 1) := dk_3 (dk_at dksX0_lends_0 10 rfl rfl)
theorem dX0_lends_11 : decode cX0_lends 11 = .ok (.ireturn, 1) := dk_172 (dk_at dksX0_lends_0 11 rfl rfl)
theorem dX0_lends_12 : decode cX0_lends 12 = .ok (.aload_n 0, 1) := dk_42 (dk_at dksX0_lends_0 12 rfl rfl)
theorem dX0_lends_13 : decode cX0_lends 13 = .ok (.getfield 12, 3) := dk_180 0 12 (dk_at dksX0_lends_0 13 rfl rfl)
theorem dX0_lends_16 : decode cX0_lends 16 = .ok (.invokevirtual 117, 3) := dk_182 0 117 (dk_at dksX0_lends_0 16 rfl rfl)
theorem dX0_lends_19 : decode cX0_lends 19 = .ok (.aload_n 0, 1) := dk_42 (dk_at dksX0_lends_0 19 rfl rfl)
theorem dX0_lends_20 : decode cX0_lends 20 = .ok (.iload_n 1, 1) := dk_27 (dk_at dksX0_lends_0 20 rfl rfl)
theorem dX0_lends_21 : decode cX0_lends 21 = .ok (.iconst 3, 1) := dk_6 (dk_at dksX0_lends_0 21 rfl rfl)
theorem dX0_lends_22 : decode cX0_lends 22 = .ok (.iload_n 2, 1) := dk_28 (dk_at dksX0_lends_0 22 rfl rfl)
theorem dX0_lends_23 : decode cX0_lends 23 = .ok (.invokevirtual 97, 3) := dk_182 0 97 (dk_at dksX0_lends_1 0 rfl rfl)
theorem dX0_lends_26 : decode cX0_lends 26 = .ok (.aload_n 0, 1) := dk_42 (dk_at dksX0_lends_1 3 rfl rfl)
theorem dX0_lends_27 : decode cX0_lends 27 = .ok (.iload_n 1, 1) := dk_27 (dk_at dksX0_lends_1 4 rfl rfl)
theorem dX0_lends_28 : decode cX0_lends 28 = .ok (.iconst 4, 1) := dk_7 (dk_at dksX0_lends_1 5 rfl rfl)
theorem dX0_lends_29 : decode cX0_lends 29 = .ok (.aload_n 0, 1) := dk_42 (dk_at dksX0_lends_1 6 rfl rfl)
theorem dX0_lends_30 : decode cX0_lends 30 = .ok (.invokevirtual 156, 3) := dk_182 0 156 (dk_at dksX0_lends_1 7 rfl rfl)
theorem dX0_lends_33 : decode cX0_lends 33 = .ok (.iload_n 3, 1) := dk_29 (dk_at dksX0_lends_1 10 rfl rfl)
theorem dX0_lends_34 : decode cX0_lends 34 = .ok (.iadd, 1) := dk_96 (dk_at dksX0_lends_1 11 rfl rfl)
theorem dX0_lends_35 : decode cX0_lends 35 = .ok (.invokevirtual 97, 3) := dk_182 0 97 (dk_at dksX0_lends_1 12 rfl rfl)
theorem dX0_lends_38 : decode cX0_lends 38 = .ok (.iconst 1, 1) := dk_4 (dk_at dksX0_lends_1 15 rfl rfl)
theorem dX0_lends_39 : decode cX0_lends 39 = .ok (.ireturn, 1) := dk_172 (dk_at dksX0_lends_1 16 rfl rfl)
def dkwX0_canLend_3 : List UInt8 := [159, 0, 7, 4, 167, 0, 4, 3, 172]
abbrev dktX0_canLend_3 : List UInt8 := dkwX0_canLend_3 ++ []
def dkwX0_canLend_2 : List UInt8 := [182, 0, 149, 160, 0, 27, 42, 27, 7, 182, 0, 149, 2, 160, 0, 17, 42, 27, 6, 182, 0, 149, 28]
abbrev dktX0_canLend_2 : List UInt8 := dkwX0_canLend_2 ++ dktX0_canLend_3
def dkwX0_canLend_1 : List UInt8 := [153, 0, 54, 42, 182, 0, 156, 29, 96, 17, 3, 231, 163, 0, 42, 42, 27, 6, 182, 0, 149, 42, 27, 5]
abbrev dktX0_canLend_1 : List UInt8 := dkwX0_canLend_1 ++ dktX0_canLend_2
def dkwX0_canLend_0 : List UInt8 := [42, 27, 182, 0, 110, 153, 0, 72, 42, 28, 182, 0, 93, 153, 0, 64, 29, 4, 16, 99, 184, 0, 74]
abbrev dktX0_canLend_0 : List UInt8 := dkwX0_canLend_0 ++ dktX0_canLend_1
theorem dksX0_canLend_0 : cX0_canLend.data.toList.drop 0 = dktX0_canLend_0 := by decide +kernel
theorem dksX0_canLend_1 : cX0_canLend.data.toList.drop 23 = dktX0_canLend_1 := dk_seg dksX0_canLend_0 23 rfl rfl
theorem dksX0_canLend_2 : cX0_canLend.data.toList.drop 47 = dktX0_canLend_2 := dk_seg dksX0_canLend_1 24 rfl rfl
theorem dksX0_canLend_3 : cX0_canLend.data.toList.drop 70 = dktX0_canLend_3 := dk_seg dksX0_canLend_2 23 rfl rfl
theorem dX0_canLend_0 : decode cX0_canLend 0 = .ok (.aload_n 0, 1) := dk_42 (dk_at dksX0_canLend_0 0 rfl rfl)
theorem dX0_canLend_1 : decode cX0_canLend 1 = .ok (.iload_n 1, 1) := dk_27 (dk_at dksX0_canLend_0 1 rfl rfl)
theorem dX0_canLend_2 : decode cX0_canLend 2 = .ok (.invokevirtual 110, 3) := dk_182 0 110 (dk_at dksX0_canLend_0 2 rfl rfl)
theorem dX0_canLend_5 : decode cX0_canLend 5 = .ok (.ifCond .eq 72, 3) := dk_153 0 72 (dk_at dksX0_canLend_0 5 rfl rfl)
theorem dX0_canLend_8 : decode cX0_canLend 8 = .ok (.aload_n 0, 1) := dk_42 (dk_at dksX0_canLend_0 8 rfl rfl)
theorem dX0_canLend_9 : decode cX0_canLend 9 = .ok (.iload_n 2, 1) := dk_28 (dk_at dksX0_canLend_0 9 rfl rfl)
theorem dX0_canLend_10 : decode cX0_canLend 10 = .ok (.invokevirtual 93, 3) := dk_182 0 93 (dk_at dksX0_canLend_0 10 rfl rfl)
theorem dX0_canLend_13 : decode cX0_canLend 13 = .ok (.ifCond .eq 64, 3) := dk_153 0 64 (dk_at dksX0_canLend_0 13 rfl rfl)
theorem dX0_canLend_16 : decode cX0_canLend 16 = .ok (.iload_n 3, 1) := dk_29 (dk_at dksX0_canLend_0 16 rfl rfl)
theorem dX0_canLend_17 : decode cX0_canLend 17 = .ok (.iconst 1, 1) := dk_4 (dk_at dksX0_canLend_0 17 rfl rfl)
theorem dX0_canLend_18 : decode cX0_canLend 18 = .ok (.bipush 99, 2) := dk_16 99 (dk_at dksX0_canLend_0 18 rfl rfl)
theorem dX0_canLend_20 : decode cX0_canLend 20 = .ok (.invokestatic 74, 3) := dk_184 0 74 (dk_at dksX0_canLend_0 20 rfl rfl)
theorem dX0_canLend_23 : decode cX0_canLend 23 = .ok (.ifCond .eq 54, 3) := dk_153 0 54 (dk_at dksX0_canLend_1 0 rfl rfl)
theorem dX0_canLend_26 : decode cX0_canLend 26 = .ok (.aload_n 0, 1) := dk_42 (dk_at dksX0_canLend_1 3 rfl rfl)
theorem dX0_canLend_27 : decode cX0_canLend 27 = .ok (.invokevirtual 156, 3) := dk_182 0 156 (dk_at dksX0_canLend_1 4 rfl rfl)
theorem dX0_canLend_30 : decode cX0_canLend 30 = .ok (.iload_n 3, 1) := dk_29 (dk_at dksX0_canLend_1 7 rfl rfl)
theorem dX0_canLend_31 : decode cX0_canLend 31 = .ok (.iadd, 1) := dk_96 (dk_at dksX0_canLend_1 8 rfl rfl)
theorem dX0_canLend_32 : decode cX0_canLend 32 = .ok (.sipush 999, 3) := dk_17 3 231 (dk_at dksX0_canLend_1 9 rfl rfl)
theorem dX0_canLend_35 : decode cX0_canLend 35 = .ok (.if_icmp .gt 42, 3) := dk_163 0 42 (dk_at dksX0_canLend_1 12 rfl rfl)
theorem dX0_canLend_38 : decode cX0_canLend 38 = .ok (.aload_n 0, 1) := dk_42 (dk_at dksX0_canLend_1 15 rfl rfl)
theorem dX0_canLend_39 : decode cX0_canLend 39 = .ok (.iload_n 1, 1) := dk_27 (dk_at dksX0_canLend_1 16 rfl rfl)
theorem dX0_canLend_40 : decode cX0_canLend 40 = .ok (.iconst 3, 1) := dk_6 (dk_at dksX0_canLend_1 17 rfl rfl)
theorem dX0_canLend_41 : decode cX0_canLend 41 = .ok (.invokevirtual 149, 3) := dk_182 0 149 (dk_at dksX0_canLend_1 18 rfl rfl)
theorem dX0_canLend_44 : decode cX0_canLend 44 = .ok (.aload_n 0, 1) := dk_42 (dk_at dksX0_canLend_1 21 rfl rfl)
theorem dX0_canLend_45 : decode cX0_canLend 45 = .ok (.iload_n 1, 1) := dk_27 (dk_at dksX0_canLend_1 22 rfl rfl)
theorem dX0_canLend_46 : decode cX0_canLend 46 = .ok (.iconst 2, 1) := dk_5 (dk_at dksX0_canLend_1 23 rfl rfl)
theorem dX0_canLend_47 : decode cX0_canLend 47 = .ok (.invokevirtual 149, 3) := dk_182 0 149 (dk_at dksX0_canLend_2 0 rfl rfl)
theorem dX0_canLend_50 : decode cX0_canLend 50 = .ok (.if_icmp .ne 27, 3) := dk_160 0 27 (dk_at dksX0_canLend_2 3 rfl rfl)
theorem dX0_canLend_53 : decode cX0_canLend 53 = .ok (.aload_n 0, 1) := dk_42 (dk_at dksX0_canLend_2 6 rfl rfl)
theorem dX0_canLend_54 : decode cX0_canLend 54 = .ok (.iload_n 1, 1) := dk_27 (dk_at dksX0_canLend_2 7 rfl rfl)
theorem dX0_canLend_55 : decode cX0_canLend 55 = .ok (.iconst 4, 1) := dk_7 (dk_at dksX0_canLend_2 8 rfl rfl)
theorem dX0_canLend_56 : decode cX0_canLend 56 = .ok (.invokevirtual 149, 3) := dk_182 0 149 (dk_at dksX0_canLend_2 9 rfl rfl)
theorem dX0_canLend_59 : decode cX0_canLend 59 = .ok (.iconst (-1), 1) := dk_2 (dk_at dksX0_canLend_2 12 rfl rfl)
theorem dX0_canLend_60 : decode cX0_canLend 60 = .ok (.if_icmp .ne 17, 3) := dk_160 0 17 (dk_at dksX0_canLend_2 13 rfl rfl)
theorem dX0_canLend_63 : decode cX0_canLend 63 = .ok (.aload_n 0, 1) := dk_42 (dk_at dksX0_canLend_2 16 rfl rfl)
theorem dX0_canLend_64 : decode cX0_canLend 64 = .ok (.iload_n 1, 1) := dk_27 (dk_at dksX0_canLend_2 17 rfl rfl)
theorem dX0_canLend_65 : decode cX0_canLend 65 = .ok (.iconst 3, 1) := dk_6 (dk_at dksX0_canLend_2 18 rfl rfl)
theorem dX0_canLend_66 : decode cX0_canLend 66 = .ok (.invokevirtual 149, 3) := dk_182 0 149 (dk_at dksX0_canLend_2 19 rfl rfl)
theorem dX0_canLend_69 : decode cX0_canLend 69 = .ok (.iload_n 2, 1) := dk_28 (dk_at dksX0_canLend_2 22 rfl rfl)
theorem dX0_canLend_70 : decode cX0_canLend 70 = .ok (.if_icmp .eq 7, 3) := dk_159 0 7 (dk_at dksX0_canLend_3 0 rfl rfl)
theorem dX0_canLend_73 : decode cX0_canLend 73 = .ok (.iconst 1, 1) := dk_4 (dk_at dksX0_canLend_3 3 rfl rfl)
theorem dX0_canLend_74 : decode cX0_canLend 74 = .ok (.goto 4, 3) := dk_167 0 4 (dk_at dksX0_canLend_3 4 rfl rfl)
theorem dX0_canLend_77 : decode cX0_canLend 77 = .ok (.iconst 0, 1) := dk_3 (dk_at dksX0_canLend_3 7 rfl rfl)
theorem dX0_canLend_78 : decode cX0_canLend 78 = .ok (.ireturn, 1) := dk_172 (dk_at dksX0_canLend_3 8 rfl rfl)
def dkwX0_year_0 : List UInt8 := [42, 180, 0, 12, 180, 0, 78, 16, 90, 46, 172]
abbrev dktX0_year_0 : List UInt8 := dkwX0_year_0 ++ []
theorem dksX0_year_0 : cX0_year.data.toList.drop 0 = dktX0_year_0 := by decide +kernel
theorem dX0_year_0 : decode cX0_year 0 = .ok (.aload_n 0, 1) := dk_42 (dk_at dksX0_year_0 0 rfl rfl)
theorem dX0_year_1 : decode cX0_year 1 = .ok (.getfield 12, 3) := dk_180 0 12 (dk_at dksX0_year_0 1 rfl rfl)
theorem dX0_year_4 : decode cX0_year 4 = .ok (.getfield 78, 3) := dk_180 0 78 (dk_at dksX0_year_0 4 rfl rfl)
theorem dX0_year_7 : decode cX0_year 7 = .ok (.bipush 90, 2) := dk_16 90 (dk_at dksX0_year_0 7 rfl rfl)
theorem dX0_year_9 : decode cX0_year 9 = .ok (.iaload, 1) := dk_46 (dk_at dksX0_year_0 9 rfl rfl)
theorem dX0_year_10 : decode cX0_year 10 = .ok (.ireturn, 1) := dk_172 (dk_at dksX0_year_0 10 rfl rfl)
def dkwX0_bone_2_0 : List UInt8 := [42, 180, 0, 12, 180, 0, 78, 27, 8, 104, 28, 96, 46, 172]
abbrev dktX0_bone_2_0 : List UInt8 := dkwX0_bone_2_0 ++ []
theorem dksX0_bone_2_0 : cX0_bone_2.data.toList.drop 0 = dktX0_bone_2_0 := by decide +kernel
theorem dX0_bone_2_0 : decode cX0_bone_2 0 = .ok (.aload_n 0, 1) := dk_42 (dk_at dksX0_bone_2_0 0 rfl rfl)
theorem dX0_bone_2_1 : decode cX0_bone_2 1 = .ok (.getfield 12, 3) := dk_180 0 12 (dk_at dksX0_bone_2_0 1 rfl rfl)
theorem dX0_bone_2_4 : decode cX0_bone_2 4 = .ok (.getfield 78, 3) := dk_180 0 78 (dk_at dksX0_bone_2_0 4 rfl rfl)
theorem dX0_bone_2_7 : decode cX0_bone_2 7 = .ok (.iload_n 1, 1) := dk_27 (dk_at dksX0_bone_2_0 7 rfl rfl)
theorem dX0_bone_2_8 : decode cX0_bone_2 8 = .ok (.iconst 5, 1) := dk_8 (dk_at dksX0_bone_2_0 8 rfl rfl)
theorem dX0_bone_2_9 : decode cX0_bone_2 9 = .ok (.imul, 1) := dk_104 (dk_at dksX0_bone_2_0 9 rfl rfl)
theorem dX0_bone_2_10 : decode cX0_bone_2 10 = .ok (.iload_n 2, 1) := dk_28 (dk_at dksX0_bone_2_0 10 rfl rfl)
theorem dX0_bone_2_11 : decode cX0_bone_2 11 = .ok (.iadd, 1) := dk_96 (dk_at dksX0_bone_2_0 11 rfl rfl)
theorem dX0_bone_2_12 : decode cX0_bone_2 12 = .ok (.iaload, 1) := dk_46 (dk_at dksX0_bone_2_0 12 rfl rfl)
theorem dX0_bone_2_13 : decode cX0_bone_2 13 = .ok (.ireturn, 1) := dk_172 (dk_at dksX0_bone_2_0 13 rfl rfl)
def dkwX0_swap_2 : List UInt8 := [27, 6, 42, 28, 6, 182, 0, 149, 182, 0, 97, 42, 28, 6, 29, 182, 0, 97, 4, 172]
abbrev dktX0_swap_2 : List UInt8 := dkwX0_swap_2 ++ []
def dkwX0_swap_1 : List UInt8 := [6, 182, 0, 149, 160, 0, 5, 3, 172, 42, 180, 0, 12, 182, 0, 117, 42, 27, 6, 182, 0, 149, 62, 42]
abbrev dktX0_swap_1 : List UInt8 := dkwX0_swap_1 ++ dktX0_swap_2
def dkwX0_swap_0 : List UInt8 := [42, 27, 182, 0, 110, 153, 0, 26, 42, 28, 182, 0, 110, 153, 0, 18, 42, 27, 6, 182, 0, 149, 42, 28]
abbrev dktX0_swap_0 : List UInt8 := dkwX0_swap_0 ++ dktX0_swap_1
theorem dksX0_swap_0 : cX0_swap.data.toList.drop 0 = dktX0_swap_0 := by decide +kernel
theorem dksX0_swap_1 : cX0_swap.data.toList.drop 24 = dktX0_swap_1 := dk_seg dksX0_swap_0 24 rfl rfl
theorem dksX0_swap_2 : cX0_swap.data.toList.drop 48 = dktX0_swap_2 := dk_seg dksX0_swap_1 24 rfl rfl
theorem dX0_swap_0 : decode cX0_swap 0 = .ok (.aload_n 0, 1) := dk_42 (dk_at dksX0_swap_0 0 rfl rfl)
theorem dX0_swap_1 : decode cX0_swap 1 = .ok (.iload_n 1, 1) := dk_27 (dk_at dksX0_swap_0 1 rfl rfl)
theorem dX0_swap_2 : decode cX0_swap 2 = .ok (.invokevirtual 110, 3) := dk_182 0 110 (dk_at dksX0_swap_0 2 rfl rfl)
theorem dX0_swap_5 : decode cX0_swap 5 = .ok (.ifCond .eq 26, 3) := dk_153 0 26 (dk_at dksX0_swap_0 5 rfl rfl)
theorem dX0_swap_8 : decode cX0_swap 8 = .ok (.aload_n 0, 1) := dk_42 (dk_at dksX0_swap_0 8 rfl rfl)
theorem dX0_swap_9 : decode cX0_swap 9 = .ok (.iload_n 2, 1) := dk_28 (dk_at dksX0_swap_0 9 rfl rfl)
theorem dX0_swap_10 : decode cX0_swap 10 = .ok (.invokevirtual 110, 3) := dk_182 0 110 (dk_at dksX0_swap_0 10 rfl rfl)
theorem dX0_swap_13 : decode cX0_swap 13 = .ok (.ifCond .eq 18, 3) := dk_153 0 18 (dk_at dksX0_swap_0 13 rfl rfl)
theorem dX0_swap_16 : decode cX0_swap 16 = .ok (.aload_n 0, 1) := dk_42 (dk_at dksX0_swap_0 16 rfl rfl)
theorem dX0_swap_17 : decode cX0_swap 17 = .ok (.iload_n 1, 1) := dk_27 (dk_at dksX0_swap_0 17 rfl rfl)
theorem dX0_swap_18 : decode cX0_swap 18 = .ok (.iconst 3, 1) := dk_6 (dk_at dksX0_swap_0 18 rfl rfl)
theorem dX0_swap_19 : decode cX0_swap 19 = .ok (.invokevirtual 149, 3) := dk_182 0 149 (dk_at dksX0_swap_0 19 rfl rfl)
theorem dX0_swap_22 : decode cX0_swap 22 = .ok (.aload_n 0, 1) := dk_42 (dk_at dksX0_swap_0 22 rfl rfl)
theorem dX0_swap_23 : decode cX0_swap 23 = .ok (.iload_n 2, 1) := dk_28 (dk_at dksX0_swap_0 23 rfl rfl)
theorem dX0_swap_24 : decode cX0_swap 24 = .ok (.iconst 3, 1) := dk_6 (dk_at dksX0_swap_1 0 rfl rfl)
theorem dX0_swap_25 : decode cX0_swap 25 = .ok (.invokevirtual 149, 3) := dk_182 0 149 (dk_at dksX0_swap_1 1 rfl rfl)
theorem dX0_swap_28 : decode cX0_swap 28 = .ok (.if_icmp .ne 5, 3) := dk_160 0 5 (dk_at dksX0_swap_1 4 rfl rfl)
theorem dX0_swap_31 : decode cX0_swap 31 = .ok (.iconst 0, 1) := dk_3 (dk_at dksX0_swap_1 7 rfl rfl)
theorem dX0_swap_32 : decode cX0_swap 32 = .ok (.ireturn, 1) := dk_172 (dk_at dksX0_swap_1 8 rfl rfl)
theorem dX0_swap_33 : decode cX0_swap 33 = .ok (.aload_n 0, 1) := dk_42 (dk_at dksX0_swap_1 9 rfl rfl)
theorem dX0_swap_34 : decode cX0_swap 34 = .ok (.getfield 12, 3) := dk_180 0 12 (dk_at dksX0_swap_1 10 rfl rfl)
theorem dX0_swap_37 : decode cX0_swap 37 = .ok (.invokevirtual 117, 3) := dk_182 0 117 (dk_at dksX0_swap_1 13 rfl rfl)
theorem dX0_swap_40 : decode cX0_swap 40 = .ok (.aload_n 0, 1) := dk_42 (dk_at dksX0_swap_1 16 rfl rfl)
theorem dX0_swap_41 : decode cX0_swap 41 = .ok (.iload_n 1, 1) := dk_27 (dk_at dksX0_swap_1 17 rfl rfl)
theorem dX0_swap_42 : decode cX0_swap 42 = .ok (.iconst 3, 1) := dk_6 (dk_at dksX0_swap_1 18 rfl rfl)
theorem dX0_swap_43 : decode cX0_swap 43 = .ok (.invokevirtual 149, 3) := dk_182 0 149 (dk_at dksX0_swap_1 19 rfl rfl)
theorem dX0_swap_46 : decode cX0_swap 46 = .ok (.istore_n 3, 1) := dk_62 (dk_at dksX0_swap_1 22 rfl rfl)
theorem dX0_swap_47 : decode cX0_swap 47 = .ok (.aload_n 0, 1) := dk_42 (dk_at dksX0_swap_1 23 rfl rfl)
theorem dX0_swap_48 : decode cX0_swap 48 = .ok (.iload_n 1, 1) := dk_27 (dk_at dksX0_swap_2 0 rfl rfl)
theorem dX0_swap_49 : decode cX0_swap 49 = .ok (.iconst 3, 1) := dk_6 (dk_at dksX0_swap_2 1 rfl rfl)
theorem dX0_swap_50 : decode cX0_swap 50 = .ok (.aload_n 0, 1) := dk_42 (dk_at dksX0_swap_2 2 rfl rfl)
theorem dX0_swap_51 : decode cX0_swap 51 = .ok (.iload_n 2, 1) := dk_28 (dk_at dksX0_swap_2 3 rfl rfl)
theorem dX0_swap_52 : decode cX0_swap 52 = .ok (.iconst 3, 1) := dk_6 (dk_at dksX0_swap_2 4 rfl rfl)
theorem dX0_swap_53 : decode cX0_swap 53 = .ok (.invokevirtual 149, 3) := dk_182 0 149 (dk_at dksX0_swap_2 5 rfl rfl)
theorem dX0_swap_56 : decode cX0_swap 56 = .ok (.invokevirtual 97, 3) := dk_182 0 97 (dk_at dksX0_swap_2 8 rfl rfl)
theorem dX0_swap_59 : decode cX0_swap 59 = .ok (.aload_n 0, 1) := dk_42 (dk_at dksX0_swap_2 11 rfl rfl)
theorem dX0_swap_60 : decode cX0_swap 60 = .ok (.iload_n 2, 1) := dk_28 (dk_at dksX0_swap_2 12 rfl rfl)
theorem dX0_swap_61 : decode cX0_swap 61 = .ok (.iconst 3, 1) := dk_6 (dk_at dksX0_swap_2 13 rfl rfl)
theorem dX0_swap_62 : decode cX0_swap 62 = .ok (.iload_n 3, 1) := dk_29 (dk_at dksX0_swap_2 14 rfl rfl)
theorem dX0_swap_63 : decode cX0_swap 63 = .ok (.invokevirtual 97, 3) := dk_182 0 97 (dk_at dksX0_swap_2 15 rfl rfl)
theorem dX0_swap_66 : decode cX0_swap 66 = .ok (.iconst 1, 1) := dk_4 (dk_at dksX0_swap_2 18 rfl rfl)
theorem dX0_swap_67 : decode cX0_swap 67 = .ok (.ireturn, 1) := dk_172 (dk_at dksX0_swap_2 19 rfl rfl)
def dkwX0_steal_2 : List UInt8 := [182, 0, 97, 42, 27, 7, 2, 182, 0, 97, 4, 172]
abbrev dktX0_steal_2 : List UInt8 := dkwX0_steal_2 ++ []
def dkwX0_steal_1 : List UInt8 := [160, 0, 5, 3, 172, 42, 180, 0, 12, 182, 0, 117, 42, 27, 6, 28, 182, 0, 97, 42, 27, 5, 28]
abbrev dktX0_steal_1 : List UInt8 := dkwX0_steal_1 ++ dktX0_steal_2
def dkwX0_steal_0 : List UInt8 := [42, 27, 182, 0, 110, 153, 0, 21, 42, 28, 182, 0, 93, 153, 0, 13, 42, 27, 6, 182, 0, 149, 28]
abbrev dktX0_steal_0 : List UInt8 := dkwX0_steal_0 ++ dktX0_steal_1
theorem dksX0_steal_0 : cX0_steal.data.toList.drop 0 = dktX0_steal_0 := by decide +kernel
theorem dksX0_steal_1 : cX0_steal.data.toList.drop 23 = dktX0_steal_1 := dk_seg dksX0_steal_0 23 rfl rfl
theorem dksX0_steal_2 : cX0_steal.data.toList.drop 46 = dktX0_steal_2 := dk_seg dksX0_steal_1 23 rfl rfl
theorem dX0_steal_0 : decode cX0_steal 0 = .ok (.aload_n 0, 1) := dk_42 (dk_at dksX0_steal_0 0 rfl rfl)
theorem dX0_steal_1 : decode cX0_steal 1 = .ok (.iload_n 1, 1) := dk_27 (dk_at dksX0_steal_0 1 rfl rfl)
theorem dX0_steal_2 : decode cX0_steal 2 = .ok (.invokevirtual 110, 3) := dk_182 0 110 (dk_at dksX0_steal_0 2 rfl rfl)
theorem dX0_steal_5 : decode cX0_steal 5 = .ok (.ifCond .eq 21, 3) := dk_153 0 21 (dk_at dksX0_steal_0 5 rfl rfl)
theorem dX0_steal_8 : decode cX0_steal 8 = .ok (.aload_n 0, 1) := dk_42 (dk_at dksX0_steal_0 8 rfl rfl)
theorem dX0_steal_9 : decode cX0_steal 9 = .ok (.iload_n 2, 1) := dk_28 (dk_at dksX0_steal_0 9 rfl rfl)
theorem dX0_steal_10 : decode cX0_steal 10 = .ok (.invokevirtual 93, 3) := dk_182 0 93 (dk_at dksX0_steal_0 10 rfl rfl)
theorem dX0_steal_13 : decode cX0_steal 13 = .ok (.ifCond .eq 13, 3) := dk_153 0 13 (dk_at dksX0_steal_0 13 rfl rfl)
theorem dX0_steal_16 : decode cX0_steal 16 = .ok (.aload_n 0, 1) := dk_42 (dk_at dksX0_steal_0 16 rfl rfl)
theorem dX0_steal_17 : decode cX0_steal 17 = .ok (.iload_n 1, 1) := dk_27 (dk_at dksX0_steal_0 17 rfl rfl)
theorem dX0_steal_18 : decode cX0_steal 18 = .ok (.iconst 3, 1) := dk_6 (dk_at dksX0_steal_0 18 rfl rfl)
theorem dX0_steal_19 : decode cX0_steal 19 = .ok (.invokevirtual 149, 3) := dk_182 0 149 (dk_at dksX0_steal_0 19 rfl rfl)
theorem dX0_steal_22 : decode cX0_steal 22 = .ok (.iload_n 2, 1) := dk_28 (dk_at dksX0_steal_0 22 rfl rfl)
theorem dX0_steal_23 : decode cX0_steal 23 = .ok (.if_icmp .ne 5, 3) := dk_160 0 5 (dk_at dksX0_steal_1 0 rfl rfl)
theorem dX0_steal_26 : decode cX0_steal 26 = .ok (.iconst 0, 1) := dk_3 (dk_at dksX0_steal_1 3 rfl rfl)
theorem dX0_steal_27 : decode cX0_steal 27 = .ok (.ireturn, 1) := dk_172 (dk_at dksX0_steal_1 4 rfl rfl)
theorem dX0_steal_28 : decode cX0_steal 28 = .ok (.aload_n 0, 1) := dk_42 (dk_at dksX0_steal_1 5 rfl rfl)
theorem dX0_steal_29 : decode cX0_steal 29 = .ok (.getfield 12, 3) := dk_180 0 12 (dk_at dksX0_steal_1 6 rfl rfl)
theorem dX0_steal_32 : decode cX0_steal 32 = .ok (.invokevirtual 117, 3) := dk_182 0 117 (dk_at dksX0_steal_1 9 rfl rfl)
theorem dX0_steal_35 : decode cX0_steal 35 = .ok (.aload_n 0, 1) := dk_42 (dk_at dksX0_steal_1 12 rfl rfl)
theorem dX0_steal_36 : decode cX0_steal 36 = .ok (.iload_n 1, 1) := dk_27 (dk_at dksX0_steal_1 13 rfl rfl)
theorem dX0_steal_37 : decode cX0_steal 37 = .ok (.iconst 3, 1) := dk_6 (dk_at dksX0_steal_1 14 rfl rfl)
theorem dX0_steal_38 : decode cX0_steal 38 = .ok (.iload_n 2, 1) := dk_28 (dk_at dksX0_steal_1 15 rfl rfl)
theorem dX0_steal_39 : decode cX0_steal 39 = .ok (.invokevirtual 97, 3) := dk_182 0 97 (dk_at dksX0_steal_1 16 rfl rfl)
theorem dX0_steal_42 : decode cX0_steal 42 = .ok (.aload_n 0, 1) := dk_42 (dk_at dksX0_steal_1 19 rfl rfl)
theorem dX0_steal_43 : decode cX0_steal 43 = .ok (.iload_n 1, 1) := dk_27 (dk_at dksX0_steal_1 20 rfl rfl)
theorem dX0_steal_44 : decode cX0_steal 44 = .ok (.iconst 2, 1) := dk_5 (dk_at dksX0_steal_1 21 rfl rfl)
theorem dX0_steal_45 : decode cX0_steal 45 = .ok (.iload_n 2, 1) := dk_28 (dk_at dksX0_steal_1 22 rfl rfl)
theorem dX0_steal_46 : decode cX0_steal 46 = .ok (.invokevirtual 97, 3) := dk_182 0 97 (dk_at dksX0_steal_2 0 rfl rfl)
theorem dX0_steal_49 : decode cX0_steal 49 = .ok (.aload_n 0, 1) := dk_42 (dk_at dksX0_steal_2 3 rfl rfl)
theorem dX0_steal_50 : decode cX0_steal 50 = .ok (.iload_n 1, 1) := dk_27 (dk_at dksX0_steal_2 4 rfl rfl)
theorem dX0_steal_51 : decode cX0_steal 51 = .ok (.iconst 4, 1) := dk_7 (dk_at dksX0_steal_2 5 rfl rfl)
theorem dX0_steal_52 : decode cX0_steal 52 = .ok (.iconst (-1), 1) := dk_2 (dk_at dksX0_steal_2 6 rfl rfl)
theorem dX0_steal_53 : decode cX0_steal 53 = .ok (.invokevirtual 97, 3) := dk_182 0 97 (dk_at dksX0_steal_2 7 rfl rfl)
theorem dX0_steal_56 : decode cX0_steal 56 = .ok (.iconst 1, 1) := dk_4 (dk_at dksX0_steal_2 10 rfl rfl)
theorem dX0_steal_57 : decode cX0_steal 57 = .ok (.ireturn, 1) := dk_172 (dk_at dksX0_steal_2 11 rfl rfl)
def dkwX0_burn_1 : List UInt8 := [16, 80, 27, 96, 46, 184, 0, 166, 61, 42, 180, 0, 12, 180, 0, 78, 16, 80, 27, 96, 3, 79, 28, 172]
abbrev dktX0_burn_1 : List UInt8 := dkwX0_burn_1 ++ []
def dkwX0_burn_0 : List UInt8 := [42, 27, 182, 0, 93, 154, 0, 5, 2, 172, 42, 180, 0, 12, 182, 0, 117, 42, 180, 0, 12, 180, 0, 78]
abbrev dktX0_burn_0 : List UInt8 := dkwX0_burn_0 ++ dktX0_burn_1
theorem dksX0_burn_0 : cX0_burn.data.toList.drop 0 = dktX0_burn_0 := by decide +kernel
theorem dksX0_burn_1 : cX0_burn.data.toList.drop 24 = dktX0_burn_1 := dk_seg dksX0_burn_0 24 rfl rfl
theorem dX0_burn_0 : decode cX0_burn 0 = .ok (.aload_n 0, 1) := dk_42 (dk_at dksX0_burn_0 0 rfl rfl)
theorem dX0_burn_1 : decode cX0_burn 1 = .ok (.iload_n 1, 1) := dk_27 (dk_at dksX0_burn_0 1 rfl rfl)
theorem dX0_burn_2 : decode cX0_burn 2 = .ok (.invokevirtual 93, 3) := dk_182 0 93 (dk_at dksX0_burn_0 2 rfl rfl)
theorem dX0_burn_5 : decode cX0_burn 5 = .ok (.ifCond .ne 5, 3) := dk_154 0 5 (dk_at dksX0_burn_0 5 rfl rfl)
theorem dX0_burn_8 : decode cX0_burn 8 = .ok (.iconst (-1), 1) := dk_2 (dk_at dksX0_burn_0 8 rfl rfl)
theorem dX0_burn_9 : decode cX0_burn 9 = .ok (.ireturn, 1) := dk_172 (dk_at dksX0_burn_0 9 rfl rfl)
theorem dX0_burn_10 : decode cX0_burn 10 = .ok (.aload_n 0, 1) := dk_42 (dk_at dksX0_burn_0 10 rfl rfl)
theorem dX0_burn_11 : decode cX0_burn 11 = .ok (.getfield 12, 3) := dk_180 0 12 (dk_at dksX0_burn_0 11 rfl rfl)
theorem dX0_burn_14 : decode cX0_burn 14 = .ok (.invokevirtual 117, 3) := dk_182 0 117 (dk_at dksX0_burn_0 14 rfl rfl)
theorem dX0_burn_17 : decode cX0_burn 17 = .ok (.aload_n 0, 1) := dk_42 (dk_at dksX0_burn_0 17 rfl rfl)
theorem dX0_burn_18 : decode cX0_burn 18 = .ok (.getfield 12, 3) := dk_180 0 12 (dk_at dksX0_burn_0 18 rfl rfl)
theorem dX0_burn_21 : decode cX0_burn 21 = .ok (.getfield 78, 3) := dk_180 0 78 (dk_at dksX0_burn_0 21 rfl rfl)
theorem dX0_burn_24 : decode cX0_burn 24 = .ok (.bipush 80, 2) := dk_16 80 (dk_at dksX0_burn_1 0 rfl rfl)
theorem dX0_burn_26 : decode cX0_burn 26 = .ok (.iload_n 1, 1) := dk_27 (dk_at dksX0_burn_1 2 rfl rfl)
theorem dX0_burn_27 : decode cX0_burn 27 = .ok (.iadd, 1) := dk_96 (dk_at dksX0_burn_1 3 rfl rfl)
theorem dX0_burn_28 : decode cX0_burn 28 = .ok (.iaload, 1) := dk_46 (dk_at dksX0_burn_1 4 rfl rfl)
theorem dX0_burn_29 : decode cX0_burn 29 = .ok (.invokestatic 166, 3) := dk_184 0 166 (dk_at dksX0_burn_1 5 rfl rfl)
theorem dX0_burn_32 : decode cX0_burn 32 = .ok (.istore_n 2, 1) := dk_61 (dk_at dksX0_burn_1 8 rfl rfl)
theorem dX0_burn_33 : decode cX0_burn 33 = .ok (.aload_n 0, 1) := dk_42 (dk_at dksX0_burn_1 9 rfl rfl)
theorem dX0_burn_34 : decode cX0_burn 34 = .ok (.getfield 12, 3) := dk_180 0 12 (dk_at dksX0_burn_1 10 rfl rfl)
theorem dX0_burn_37 : decode cX0_burn 37 = .ok (.getfield 78, 3) := dk_180 0 78 (dk_at dksX0_burn_1 13 rfl rfl)
theorem dX0_burn_40 : decode cX0_burn 40 = .ok (.bipush 80, 2) := dk_16 80 (dk_at dksX0_burn_1 16 rfl rfl)
theorem dX0_burn_42 : decode cX0_burn 42 = .ok (.iload_n 1, 1) := dk_27 (dk_at dksX0_burn_1 18 rfl rfl)
theorem dX0_burn_43 : decode cX0_burn 43 = .ok (.iadd, 1) := dk_96 (dk_at dksX0_burn_1 19 rfl rfl)
theorem dX0_burn_44 : decode cX0_burn 44 = .ok (.iconst 0, 1) := dk_3 (dk_at dksX0_burn_1 20 rfl rfl)
theorem dX0_burn_45 : decode cX0_burn 45 = .ok (.iastore, 1) := dk_79 (dk_at dksX0_burn_1 21 rfl rfl)
theorem dX0_burn_46 : decode cX0_burn 46 = .ok (.iload_n 2, 1) := dk_28 (dk_at dksX0_burn_1 22 rfl rfl)
theorem dX0_burn_47 : decode cX0_burn 47 = .ok (.ireturn, 1) := dk_172 (dk_at dksX0_burn_1 23 rfl rfl)
def dkwX0_pass_5 : List UInt8 := [2, 182, 0, 97, 132, 3, 1, 167, 255, 183, 132, 2, 1, 167, 255, 156, 42, 182, 0, 156, 172]
abbrev dktX0_pass_5 : List UInt8 := dkwX0_pass_5 ++ []
def dkwX0_pass_4 : List UInt8 := [182, 0, 156, 159, 0, 6, 167, 0, 22, 42, 29, 6, 42, 29, 5, 182, 0, 149, 182, 0, 97, 42, 29, 7]
abbrev dktX0_pass_4 : List UInt8 := dkwX0_pass_4 ++ dktX0_pass_5
def dkwX0_pass_3 : List UInt8 := [29, 4, 182, 0, 149, 42, 29, 182, 0, 192, 100, 184, 0, 194, 182, 0, 97, 42, 29, 7, 182, 0, 149, 42]
abbrev dktX0_pass_3 : List UInt8 := dkwX0_pass_3 ++ dktX0_pass_4
def dkwX0_pass_2 : List UInt8 := [46, 4, 96, 79, 3, 62, 29, 42, 180, 0, 12, 180, 0, 71, 4, 46, 162, 0, 66, 42, 29, 4, 4, 42]
abbrev dktX0_pass_2 : List UInt8 := dkwX0_pass_2 ++ dktX0_pass_3
def dkwX0_pass_1 : List UInt8 := [42, 180, 0, 12, 182, 0, 117, 3, 61, 28, 27, 162, 0, 101, 42, 180, 0, 12, 180, 0, 78, 16, 90, 92]
abbrev dktX0_pass_1 : List UInt8 := dkwX0_pass_1 ++ dktX0_pass_2
def dkwX0_pass_0 : List UInt8 := [27, 3, 16, 99, 184, 0, 74, 153, 0, 15, 42, 182, 0, 156, 27, 96, 17, 3, 231, 164, 0, 5, 2, 172]
abbrev dktX0_pass_0 : List UInt8 := dkwX0_pass_0 ++ dktX0_pass_1
theorem dksX0_pass_0 : cX0_pass.data.toList.drop 0 = dktX0_pass_0 := by decide +kernel
theorem dksX0_pass_1 : cX0_pass.data.toList.drop 24 = dktX0_pass_1 := dk_seg dksX0_pass_0 24 rfl rfl
theorem dksX0_pass_2 : cX0_pass.data.toList.drop 48 = dktX0_pass_2 := dk_seg dksX0_pass_1 24 rfl rfl
theorem dksX0_pass_3 : cX0_pass.data.toList.drop 72 = dktX0_pass_3 := dk_seg dksX0_pass_2 24 rfl rfl
theorem dksX0_pass_4 : cX0_pass.data.toList.drop 96 = dktX0_pass_4 := dk_seg dksX0_pass_3 24 rfl rfl
theorem dksX0_pass_5 : cX0_pass.data.toList.drop 120 = dktX0_pass_5 := dk_seg dksX0_pass_4 24 rfl rfl
theorem dX0_pass_0 : decode cX0_pass 0 = .ok (.iload_n 1, 1) := dk_27 (dk_at dksX0_pass_0 0 rfl rfl)
theorem dX0_pass_1 : decode cX0_pass 1 = .ok (.iconst 0, 1) := dk_3 (dk_at dksX0_pass_0 1 rfl rfl)
theorem dX0_pass_2 : decode cX0_pass 2 = .ok (.bipush 99, 2) := dk_16 99 (dk_at dksX0_pass_0 2 rfl rfl)
theorem dX0_pass_4 : decode cX0_pass 4 = .ok (.invokestatic 74, 3) := dk_184 0 74 (dk_at dksX0_pass_0 4 rfl rfl)
theorem dX0_pass_7 : decode cX0_pass 7 = .ok (.ifCond .eq 15, 3) := dk_153 0 15 (dk_at dksX0_pass_0 7 rfl rfl)
theorem dX0_pass_10 : decode cX0_pass 10 = .ok (.aload_n 0, 1) := dk_42 (dk_at dksX0_pass_0 10 rfl rfl)
theorem dX0_pass_11 : decode cX0_pass 11 = .ok (.invokevirtual 156, 3) := dk_182 0 156 (dk_at dksX0_pass_0 11 rfl rfl)
theorem dX0_pass_14 : decode cX0_pass 14 = .ok (.iload_n 1, 1) := dk_27 (dk_at dksX0_pass_0 14 rfl rfl)
theorem dX0_pass_15 : decode cX0_pass 15 = .ok (.iadd, 1) := dk_96 (dk_at dksX0_pass_0 15 rfl rfl)
theorem dX0_pass_16 : decode cX0_pass 16 = .ok (.sipush 999, 3) := dk_17 3 231 (dk_at dksX0_pass_0 16 rfl rfl)
theorem dX0_pass_19 : decode cX0_pass 19 = .ok (.if_icmp .le 5, 3) := dk_164 0 5 (dk_at dksX0_pass_0 19 rfl rfl)
theorem dX0_pass_22 : decode cX0_pass 22 = .ok (.iconst (-1), 1) := dk_2 (dk_at dksX0_pass_0 22 rfl rfl)
theorem dX0_pass_23 : decode cX0_pass 23 = .ok (.ireturn, 1) := dk_172 (dk_at dksX0_pass_0 23 rfl rfl)
theorem dX0_pass_24 : decode cX0_pass 24 = .ok (.aload_n 0, 1) := dk_42 (dk_at dksX0_pass_1 0 rfl rfl)
theorem dX0_pass_25 : decode cX0_pass 25 = .ok (.getfield 12, 3) := dk_180 0 12 (dk_at dksX0_pass_1 1 rfl rfl)
theorem dX0_pass_28 : decode cX0_pass 28 = .ok (.invokevirtual 117, 3) := dk_182 0 117 (dk_at dksX0_pass_1 4 rfl rfl)
theorem dX0_pass_31 : decode cX0_pass 31 = .ok (.iconst 0, 1) := dk_3 (dk_at dksX0_pass_1 7 rfl rfl)
theorem dX0_pass_32 : decode cX0_pass 32 = .ok (.istore_n 2, 1) := dk_61 (dk_at dksX0_pass_1 8 rfl rfl)
theorem dX0_pass_33 : decode cX0_pass 33 = .ok (.iload_n 2, 1) := dk_28 (dk_at dksX0_pass_1 9 rfl rfl)
theorem dX0_pass_34 : decode cX0_pass 34 = .ok (.iload_n 1, 1) := dk_27 (dk_at dksX0_pass_1 10 rfl rfl)
theorem dX0_pass_35 : decode cX0_pass 35 = .ok (.if_icmp .ge 101, 3) := dk_162 0 101 (dk_at dksX0_pass_1 11 rfl rfl)
theorem dX0_pass_38 : decode cX0_pass 38 = .ok (.aload_n 0, 1) := dk_42 (dk_at dksX0_pass_1 14 rfl rfl)
theorem dX0_pass_39 : decode cX0_pass 39 = .ok (.getfield 12, 3) := dk_180 0 12 (dk_at dksX0_pass_1 15 rfl rfl)
theorem dX0_pass_42 : decode cX0_pass 42 = .ok (.getfield 78, 3) := dk_180 0 78 (dk_at dksX0_pass_1 18 rfl rfl)
theorem dX0_pass_45 : decode cX0_pass 45 = .ok (.bipush 90, 2) := dk_16 90 (dk_at dksX0_pass_1 21 rfl rfl)
theorem dX0_pass_47 : decode cX0_pass 47 = .ok (.dup2, 1) := dk_92 (dk_at dksX0_pass_1 23 rfl rfl)
theorem dX0_pass_48 : decode cX0_pass 48 = .ok (.iaload, 1) := dk_46 (dk_at dksX0_pass_2 0 rfl rfl)
theorem dX0_pass_49 : decode cX0_pass 49 = .ok (.iconst 1, 1) := dk_4 (dk_at dksX0_pass_2 1 rfl rfl)
theorem dX0_pass_50 : decode cX0_pass 50 = .ok (.iadd, 1) := dk_96 (dk_at dksX0_pass_2 2 rfl rfl)
theorem dX0_pass_51 : decode cX0_pass 51 = .ok (.iastore, 1) := dk_79 (dk_at dksX0_pass_2 3 rfl rfl)
theorem dX0_pass_52 : decode cX0_pass 52 = .ok (.iconst 0, 1) := dk_3 (dk_at dksX0_pass_2 4 rfl rfl)
theorem dX0_pass_53 : decode cX0_pass 53 = .ok (.istore_n 3, 1) := dk_62 (dk_at dksX0_pass_2 5 rfl rfl)
theorem dX0_pass_54 : decode cX0_pass 54 = .ok (.iload_n 3, 1) := dk_29 (dk_at dksX0_pass_2 6 rfl rfl)
theorem dX0_pass_55 : decode cX0_pass 55 = .ok (.aload_n 0, 1) := dk_42 (dk_at dksX0_pass_2 7 rfl rfl)
theorem dX0_pass_56 : decode cX0_pass 56 = .ok (.getfield 12, 3) := dk_180 0 12 (dk_at dksX0_pass_2 8 rfl rfl)
theorem dX0_pass_59 : decode cX0_pass 59 = .ok (.getfield 71, 3) := dk_180 0 71 (dk_at dksX0_pass_2 11 rfl rfl)
theorem dX0_pass_62 : decode cX0_pass 62 = .ok (.iconst 1, 1) := dk_4 (dk_at dksX0_pass_2 14 rfl rfl)
theorem dX0_pass_63 : decode cX0_pass 63 = .ok (.iaload, 1) := dk_46 (dk_at dksX0_pass_2 15 rfl rfl)
theorem dX0_pass_64 : decode cX0_pass 64 = .ok (.if_icmp .ge 66, 3) := dk_162 0 66 (dk_at dksX0_pass_2 16 rfl rfl)
theorem dX0_pass_67 : decode cX0_pass 67 = .ok (.aload_n 0, 1) := dk_42 (dk_at dksX0_pass_2 19 rfl rfl)
theorem dX0_pass_68 : decode cX0_pass 68 = .ok (.iload_n 3, 1) := dk_29 (dk_at dksX0_pass_2 20 rfl rfl)
theorem dX0_pass_69 : decode cX0_pass 69 = .ok (.iconst 1, 1) := dk_4 (dk_at dksX0_pass_2 21 rfl rfl)
theorem dX0_pass_70 : decode cX0_pass 70 = .ok (.iconst 1, 1) := dk_4 (dk_at dksX0_pass_2 22 rfl rfl)
theorem dX0_pass_71 : decode cX0_pass 71 = .ok (.aload_n 0, 1) := dk_42 (dk_at dksX0_pass_2 23 rfl rfl)
theorem dX0_pass_72 : decode cX0_pass 72 = .ok (.iload_n 3, 1) := dk_29 (dk_at dksX0_pass_3 0 rfl rfl)
theorem dX0_pass_73 : decode cX0_pass 73 = .ok (.iconst 1, 1) := dk_4 (dk_at dksX0_pass_3 1 rfl rfl)
theorem dX0_pass_74 : decode cX0_pass 74 = .ok (.invokevirtual 149, 3) := dk_182 0 149 (dk_at dksX0_pass_3 2 rfl rfl)
theorem dX0_pass_77 : decode cX0_pass 77 = .ok (.aload_n 0, 1) := dk_42 (dk_at dksX0_pass_3 5 rfl rfl)
theorem dX0_pass_78 : decode cX0_pass 78 = .ok (.iload_n 3, 1) := dk_29 (dk_at dksX0_pass_3 6 rfl rfl)
theorem dX0_pass_79 : decode cX0_pass 79 = .ok (.invokevirtual 192, 3) := dk_182 0 192 (dk_at dksX0_pass_3 7 rfl rfl)
theorem dX0_pass_82 : decode cX0_pass 82 = .ok (.isub, 1) := dk_100 (dk_at dksX0_pass_3 10 rfl rfl)
theorem dX0_pass_83 : decode cX0_pass 83 = .ok (.invokestatic 194, 3) := dk_184 0 194 (dk_at dksX0_pass_3 11 rfl rfl)
theorem dX0_pass_86 : decode cX0_pass 86 = .ok (.invokevirtual 97, 3) := dk_182 0 97 (dk_at dksX0_pass_3 14 rfl rfl)
theorem dX0_pass_89 : decode cX0_pass 89 = .ok (.aload_n 0, 1) := dk_42 (dk_at dksX0_pass_3 17 rfl rfl)
theorem dX0_pass_90 : decode cX0_pass 90 = .ok (.iload_n 3, 1) := dk_29 (dk_at dksX0_pass_3 18 rfl rfl)
theorem dX0_pass_91 : decode cX0_pass 91 = .ok (.iconst 4, 1) := dk_7 (dk_at dksX0_pass_3 19 rfl rfl)
theorem dX0_pass_92 : decode cX0_pass 92 = .ok (.invokevirtual 149, 3) := dk_182 0 149 (dk_at dksX0_pass_3 20 rfl rfl)
theorem dX0_pass_95 : decode cX0_pass 95 = .ok (.aload_n 0, 1) := dk_42 (dk_at dksX0_pass_3 23 rfl rfl)
theorem dX0_pass_96 : decode cX0_pass 96 = .ok (.invokevirtual 156, 3) := dk_182 0 156 (dk_at dksX0_pass_4 0 rfl rfl)
theorem dX0_pass_99 : decode cX0_pass 99 = .ok (.if_icmp .eq 6, 3) := dk_159 0 6 (dk_at dksX0_pass_4 3 rfl rfl)
theorem dX0_pass_102 : decode cX0_pass 102 = .ok (.goto 22, 3) := dk_167 0 22 (dk_at dksX0_pass_4 6 rfl rfl)
theorem dX0_pass_105 : decode cX0_pass 105 = .ok (.aload_n 0, 1) := dk_42 (dk_at dksX0_pass_4 9 rfl rfl)
theorem dX0_pass_106 : decode cX0_pass 106 = .ok (.iload_n 3, 1) := dk_29 (dk_at dksX0_pass_4 10 rfl rfl)
theorem dX0_pass_107 : decode cX0_pass 107 = .ok (.iconst 3, 1) := dk_6 (dk_at dksX0_pass_4 11 rfl rfl)
theorem dX0_pass_108 : decode cX0_pass 108 = .ok (.aload_n 0, 1) := dk_42 (dk_at dksX0_pass_4 12 rfl rfl)
theorem dX0_pass_109 : decode cX0_pass 109 = .ok (.iload_n 3, 1) := dk_29 (dk_at dksX0_pass_4 13 rfl rfl)
theorem dX0_pass_110 : decode cX0_pass 110 = .ok (.iconst 2, 1) := dk_5 (dk_at dksX0_pass_4 14 rfl rfl)
theorem dX0_pass_111 : decode cX0_pass 111 = .ok (.invokevirtual 149, 3) := dk_182 0 149 (dk_at dksX0_pass_4 15 rfl rfl)
theorem dX0_pass_114 : decode cX0_pass 114 = .ok (.invokevirtual 97, 3) := dk_182 0 97 (dk_at dksX0_pass_4 18 rfl rfl)
theorem dX0_pass_117 : decode cX0_pass 117 = .ok (.aload_n 0, 1) := dk_42 (dk_at dksX0_pass_4 21 rfl rfl)
theorem dX0_pass_118 : decode cX0_pass 118 = .ok (.iload_n 3, 1) := dk_29 (dk_at dksX0_pass_4 22 rfl rfl)
theorem dX0_pass_119 : decode cX0_pass 119 = .ok (.iconst 4, 1) := dk_7 (dk_at dksX0_pass_4 23 rfl rfl)
theorem dX0_pass_120 : decode cX0_pass 120 = .ok (.iconst (-1), 1) := dk_2 (dk_at dksX0_pass_5 0 rfl rfl)
theorem dX0_pass_121 : decode cX0_pass 121 = .ok (.invokevirtual 97, 3) := dk_182 0 97 (dk_at dksX0_pass_5 1 rfl rfl)
theorem dX0_pass_124 : decode cX0_pass 124 = .ok (.iinc 3 1, 3) := dk_132 3 1 (dk_at dksX0_pass_5 4 rfl rfl)
theorem dX0_pass_127 : decode cX0_pass 127 = .ok (.goto (-73), 3) := dk_167 255 183 (dk_at dksX0_pass_5 7 rfl rfl)
theorem dX0_pass_130 : decode cX0_pass 130 = .ok (.iinc 2 1, 3) := dk_132 2 1 (dk_at dksX0_pass_5 10 rfl rfl)
theorem dX0_pass_133 : decode cX0_pass 133 = .ok (.goto (-100), 3) := dk_167 255 156 (dk_at dksX0_pass_5 13 rfl rfl)
theorem dX0_pass_136 : decode cX0_pass 136 = .ok (.aload_n 0, 1) := dk_42 (dk_at dksX0_pass_5 16 rfl rfl)
theorem dX0_pass_137 : decode cX0_pass 137 = .ok (.invokevirtual 156, 3) := dk_182 0 156 (dk_at dksX0_pass_5 17 rfl rfl)
theorem dX0_pass_140 : decode cX0_pass 140 = .ok (.ireturn, 1) := dk_172 (dk_at dksX0_pass_5 20 rfl rfl)
def dkwX0_worn_1 : List UInt8 := [44, 180, 0, 174, 42, 180, 0, 30, 185, 0, 182, 2, 0, 184, 0, 188, 136, 172]
abbrev dktX0_worn_1 : List UInt8 := dkwX0_worn_1 ++ []
def dkwX0_worn_0 : List UInt8 := [42, 182, 0, 171, 77, 44, 198, 0, 10, 44, 180, 0, 174, 199, 0, 5, 3, 172, 42, 27, 182, 0, 180, 9]
abbrev dktX0_worn_0 : List UInt8 := dkwX0_worn_0 ++ dktX0_worn_1
theorem dksX0_worn_0 : cX0_worn.data.toList.drop 0 = dktX0_worn_0 := by decide +kernel
theorem dksX0_worn_1 : cX0_worn.data.toList.drop 24 = dktX0_worn_1 := dk_seg dksX0_worn_0 24 rfl rfl
theorem dX0_worn_0 : decode cX0_worn 0 = .ok (.aload_n 0, 1) := dk_42 (dk_at dksX0_worn_0 0 rfl rfl)
theorem dX0_worn_1 : decode cX0_worn 1 = .ok (.invokevirtual 171, 3) := dk_182 0 171 (dk_at dksX0_worn_0 1 rfl rfl)
theorem dX0_worn_4 : decode cX0_worn 4 = .ok (.astore_n 2, 1) := dk_77 (dk_at dksX0_worn_0 4 rfl rfl)
theorem dX0_worn_5 : decode cX0_worn 5 = .ok (.aload_n 2, 1) := dk_44 (dk_at dksX0_worn_0 5 rfl rfl)
theorem dX0_worn_6 : decode cX0_worn 6 = .ok (.ifnull 10, 3) := dk_198 0 10 (dk_at dksX0_worn_0 6 rfl rfl)
theorem dX0_worn_9 : decode cX0_worn 9 = .ok (.aload_n 2, 1) := dk_44 (dk_at dksX0_worn_0 9 rfl rfl)
theorem dX0_worn_10 : decode cX0_worn 10 = .ok (.getfield 174, 3) := dk_180 0 174 (dk_at dksX0_worn_0 10 rfl rfl)
theorem dX0_worn_13 : decode cX0_worn 13 = .ok (.ifnonnull 5, 3) := dk_199 0 5 (dk_at dksX0_worn_0 13 rfl rfl)
theorem dX0_worn_16 : decode cX0_worn 16 = .ok (.iconst 0, 1) := dk_3 (dk_at dksX0_worn_0 16 rfl rfl)
theorem dX0_worn_17 : decode cX0_worn 17 = .ok (.ireturn, 1) := dk_172 (dk_at dksX0_worn_0 17 rfl rfl)
theorem dX0_worn_18 : decode cX0_worn 18 = .ok (.aload_n 0, 1) := dk_42 (dk_at dksX0_worn_0 18 rfl rfl)
theorem dX0_worn_19 : decode cX0_worn 19 = .ok (.iload_n 1, 1) := dk_27 (dk_at dksX0_worn_0 19 rfl rfl)
theorem dX0_worn_20 : decode cX0_worn 20 = .ok (.invokevirtual 180, 3) := dk_182 0 180 (dk_at dksX0_worn_0 20 rfl rfl)
theorem dX0_worn_23 : decode cX0_worn 23 = .ok (.lconst 0, 1) := dk_9 (dk_at dksX0_worn_0 23 rfl rfl)
theorem dX0_worn_24 : decode cX0_worn 24 = .ok (.aload_n 2, 1) := dk_44 (dk_at dksX0_worn_1 0 rfl rfl)
theorem dX0_worn_25 : decode cX0_worn 25 = .ok (.getfield 174, 3) := dk_180 0 174 (dk_at dksX0_worn_1 1 rfl rfl)
theorem dX0_worn_28 : decode cX0_worn 28 = .ok (.aload_n 0, 1) := dk_42 (dk_at dksX0_worn_1 4 rfl rfl)
theorem dX0_worn_29 : decode cX0_worn 29 = .ok (.getfield 30, 3) := dk_180 0 30 (dk_at dksX0_worn_1 5 rfl rfl)
theorem dX0_worn_32 : decode cX0_worn 32 = .ok (.invokeinterface 182 2, 5) := by decide +kernel
theorem dX0_worn_37 : decode cX0_worn 37 = .ok (.invokestatic 188, 3) := dk_184 0 188 (dk_at dksX0_worn_1 13 rfl rfl)
theorem dX0_worn_40 : decode cX0_worn 40 = .ok (.l2i, 1) := dk_136 (dk_at dksX0_worn_1 16 rfl rfl)
theorem dX0_worn_41 : decode cX0_worn 41 = .ok (.ireturn, 1) := dk_172 (dk_at dksX0_worn_1 17 rfl rfl)
def dkwX0_rules_1 : List UInt8 := [42, 180, 0, 12, 180, 0, 71, 6, 46, 50, 176]
abbrev dktX0_rules_1 : List UInt8 := dkwX0_rules_1 ++ []
def dkwX0_rules_0 : List UInt8 := [42, 180, 0, 12, 180, 0, 71, 6, 46, 2, 160, 0, 7, 1, 167, 0, 20, 42, 180, 0, 12, 180, 0, 127]
abbrev dktX0_rules_0 : List UInt8 := dkwX0_rules_0 ++ dktX0_rules_1
theorem dksX0_rules_0 : cX0_rules.data.toList.drop 0 = dktX0_rules_0 := by decide +kernel
theorem dksX0_rules_1 : cX0_rules.data.toList.drop 24 = dktX0_rules_1 := dk_seg dksX0_rules_0 24 rfl rfl
theorem dX0_rules_0 : decode cX0_rules 0 = .ok (.aload_n 0, 1) := dk_42 (dk_at dksX0_rules_0 0 rfl rfl)
theorem dX0_rules_1 : decode cX0_rules 1 = .ok (.getfield 12, 3) := dk_180 0 12 (dk_at dksX0_rules_0 1 rfl rfl)
theorem dX0_rules_4 : decode cX0_rules 4 = .ok (.getfield 71, 3) := dk_180 0 71 (dk_at dksX0_rules_0 4 rfl rfl)
theorem dX0_rules_7 : decode cX0_rules 7 = .ok (.iconst 3, 1) := dk_6 (dk_at dksX0_rules_0 7 rfl rfl)
theorem dX0_rules_8 : decode cX0_rules 8 = .ok (.iaload, 1) := dk_46 (dk_at dksX0_rules_0 8 rfl rfl)
theorem dX0_rules_9 : decode cX0_rules 9 = .ok (.iconst (-1), 1) := dk_2 (dk_at dksX0_rules_0 9 rfl rfl)
theorem dX0_rules_10 : decode cX0_rules 10 = .ok (.if_icmp .ne 7, 3) := dk_160 0 7 (dk_at dksX0_rules_0 10 rfl rfl)
theorem dX0_rules_13 : decode cX0_rules 13 = .ok (.aconst_null, 1) := dk_1 (dk_at dksX0_rules_0 13 rfl rfl)
theorem dX0_rules_14 : decode cX0_rules 14 = .ok (.goto 20, 3) := dk_167 0 20 (dk_at dksX0_rules_0 14 rfl rfl)
theorem dX0_rules_17 : decode cX0_rules 17 = .ok (.aload_n 0, 1) := dk_42 (dk_at dksX0_rules_0 17 rfl rfl)
theorem dX0_rules_18 : decode cX0_rules 18 = .ok (.getfield 12, 3) := dk_180 0 12 (dk_at dksX0_rules_0 18 rfl rfl)
theorem dX0_rules_21 : decode cX0_rules 21 = .ok (.getfield 127, 3) := dk_180 0 127 (dk_at dksX0_rules_0 21 rfl rfl)
theorem dX0_rules_24 : decode cX0_rules 24 = .ok (.aload_n 0, 1) := dk_42 (dk_at dksX0_rules_1 0 rfl rfl)
theorem dX0_rules_25 : decode cX0_rules 25 = .ok (.getfield 12, 3) := dk_180 0 12 (dk_at dksX0_rules_1 1 rfl rfl)
theorem dX0_rules_28 : decode cX0_rules 28 = .ok (.getfield 71, 3) := dk_180 0 71 (dk_at dksX0_rules_1 4 rfl rfl)
theorem dX0_rules_31 : decode cX0_rules 31 = .ok (.iconst 3, 1) := dk_6 (dk_at dksX0_rules_1 7 rfl rfl)
theorem dX0_rules_32 : decode cX0_rules 32 = .ok (.iaload, 1) := dk_46 (dk_at dksX0_rules_1 8 rfl rfl)
theorem dX0_rules_33 : decode cX0_rules 33 = .ok (.aaload, 1) := dk_50 (dk_at dksX0_rules_1 9 rfl rfl)
theorem dX0_rules_34 : decode cX0_rules 34 = .ok (.areturn, 1) := dk_176 (dk_at dksX0_rules_1 10 rfl rfl)
def dkwX0_names_2 : List UInt8 := [180, 0, 30, 7, 42, 182, 0, 156, 79, 177]
abbrev dktX0_names_2 : List UInt8 := dkwX0_names_2 ++ []
def dkwX0_names_1 : List UInt8 := [42, 180, 0, 30, 5, 42, 27, 6, 182, 0, 149, 79, 42, 180, 0, 30, 6, 42, 27, 182, 0, 153, 79, 42]
abbrev dktX0_names_1 : List UInt8 := dkwX0_names_1 ++ dktX0_names_2
def dkwX0_names_0 : List UInt8 := [42, 180, 0, 30, 3, 42, 27, 3, 182, 0, 149, 79, 42, 180, 0, 30, 4, 42, 27, 4, 182, 0, 149, 79]
abbrev dktX0_names_0 : List UInt8 := dkwX0_names_0 ++ dktX0_names_1
theorem dksX0_names_0 : cX0_names.data.toList.drop 0 = dktX0_names_0 := by decide +kernel
theorem dksX0_names_1 : cX0_names.data.toList.drop 24 = dktX0_names_1 := dk_seg dksX0_names_0 24 rfl rfl
theorem dksX0_names_2 : cX0_names.data.toList.drop 48 = dktX0_names_2 := dk_seg dksX0_names_1 24 rfl rfl
theorem dX0_names_0 : decode cX0_names 0 = .ok (.aload_n 0, 1) := dk_42 (dk_at dksX0_names_0 0 rfl rfl)
theorem dX0_names_1 : decode cX0_names 1 = .ok (.getfield 30, 3) := dk_180 0 30 (dk_at dksX0_names_0 1 rfl rfl)
theorem dX0_names_4 : decode cX0_names 4 = .ok (.iconst 0, 1) := dk_3 (dk_at dksX0_names_0 4 rfl rfl)
theorem dX0_names_5 : decode cX0_names 5 = .ok (.aload_n 0, 1) := dk_42 (dk_at dksX0_names_0 5 rfl rfl)
theorem dX0_names_6 : decode cX0_names 6 = .ok (.iload_n 1, 1) := dk_27 (dk_at dksX0_names_0 6 rfl rfl)
theorem dX0_names_7 : decode cX0_names 7 = .ok (.iconst 0, 1) := dk_3 (dk_at dksX0_names_0 7 rfl rfl)
theorem dX0_names_8 : decode cX0_names 8 = .ok (.invokevirtual 149, 3) := dk_182 0 149 (dk_at dksX0_names_0 8 rfl rfl)
theorem dX0_names_11 : decode cX0_names 11 = .ok (.iastore, 1) := dk_79 (dk_at dksX0_names_0 11 rfl rfl)
theorem dX0_names_12 : decode cX0_names 12 = .ok (.aload_n 0, 1) := dk_42 (dk_at dksX0_names_0 12 rfl rfl)
theorem dX0_names_13 : decode cX0_names 13 = .ok (.getfield 30, 3) := dk_180 0 30 (dk_at dksX0_names_0 13 rfl rfl)
theorem dX0_names_16 : decode cX0_names 16 = .ok (.iconst 1, 1) := dk_4 (dk_at dksX0_names_0 16 rfl rfl)
theorem dX0_names_17 : decode cX0_names 17 = .ok (.aload_n 0, 1) := dk_42 (dk_at dksX0_names_0 17 rfl rfl)
theorem dX0_names_18 : decode cX0_names 18 = .ok (.iload_n 1, 1) := dk_27 (dk_at dksX0_names_0 18 rfl rfl)
theorem dX0_names_19 : decode cX0_names 19 = .ok (.iconst 1, 1) := dk_4 (dk_at dksX0_names_0 19 rfl rfl)
theorem dX0_names_20 : decode cX0_names 20 = .ok (.invokevirtual 149, 3) := dk_182 0 149 (dk_at dksX0_names_0 20 rfl rfl)
theorem dX0_names_23 : decode cX0_names 23 = .ok (.iastore, 1) := dk_79 (dk_at dksX0_names_0 23 rfl rfl)
theorem dX0_names_24 : decode cX0_names 24 = .ok (.aload_n 0, 1) := dk_42 (dk_at dksX0_names_1 0 rfl rfl)
theorem dX0_names_25 : decode cX0_names 25 = .ok (.getfield 30, 3) := dk_180 0 30 (dk_at dksX0_names_1 1 rfl rfl)
theorem dX0_names_28 : decode cX0_names 28 = .ok (.iconst 2, 1) := dk_5 (dk_at dksX0_names_1 4 rfl rfl)
theorem dX0_names_29 : decode cX0_names 29 = .ok (.aload_n 0, 1) := dk_42 (dk_at dksX0_names_1 5 rfl rfl)
theorem dX0_names_30 : decode cX0_names 30 = .ok (.iload_n 1, 1) := dk_27 (dk_at dksX0_names_1 6 rfl rfl)
theorem dX0_names_31 : decode cX0_names 31 = .ok (.iconst 3, 1) := dk_6 (dk_at dksX0_names_1 7 rfl rfl)
theorem dX0_names_32 : decode cX0_names 32 = .ok (.invokevirtual 149, 3) := dk_182 0 149 (dk_at dksX0_names_1 8 rfl rfl)
theorem dX0_names_35 : decode cX0_names 35 = .ok (.iastore, 1) := dk_79 (dk_at dksX0_names_1 11 rfl rfl)
theorem dX0_names_36 : decode cX0_names 36 = .ok (.aload_n 0, 1) := dk_42 (dk_at dksX0_names_1 12 rfl rfl)
theorem dX0_names_37 : decode cX0_names 37 = .ok (.getfield 30, 3) := dk_180 0 30 (dk_at dksX0_names_1 13 rfl rfl)
theorem dX0_names_40 : decode cX0_names 40 = .ok (.iconst 3, 1) := dk_6 (dk_at dksX0_names_1 16 rfl rfl)
theorem dX0_names_41 : decode cX0_names 41 = .ok (.aload_n 0, 1) := dk_42 (dk_at dksX0_names_1 17 rfl rfl)
theorem dX0_names_42 : decode cX0_names 42 = .ok (.iload_n 1, 1) := dk_27 (dk_at dksX0_names_1 18 rfl rfl)
theorem dX0_names_43 : decode cX0_names 43 = .ok (.invokevirtual 153, 3) := dk_182 0 153 (dk_at dksX0_names_1 19 rfl rfl)
theorem dX0_names_46 : decode cX0_names 46 = .ok (.iastore, 1) := dk_79 (dk_at dksX0_names_1 22 rfl rfl)
theorem dX0_names_47 : decode cX0_names 47 = .ok (.aload_n 0, 1) := dk_42 (dk_at dksX0_names_1 23 rfl rfl)
theorem dX0_names_48 : decode cX0_names 48 = .ok (.getfield 30, 3) := dk_180 0 30 (dk_at dksX0_names_2 0 rfl rfl)
theorem dX0_names_51 : decode cX0_names 51 = .ok (.iconst 4, 1) := dk_7 (dk_at dksX0_names_2 3 rfl rfl)
theorem dX0_names_52 : decode cX0_names 52 = .ok (.aload_n 0, 1) := dk_42 (dk_at dksX0_names_2 4 rfl rfl)
theorem dX0_names_53 : decode cX0_names 53 = .ok (.invokevirtual 156, 3) := dk_182 0 156 (dk_at dksX0_names_2 5 rfl rfl)
theorem dX0_names_56 : decode cX0_names 56 = .ok (.iastore, 1) := dk_79 (dk_at dksX0_names_2 8 rfl rfl)
theorem dX0_names_57 : decode cX0_names 57 = .ok (.return_, 1) := dk_177 (dk_at dksX0_names_2 9 rfl rfl)
def dkwX0_proofsOf_1 : List UInt8 := [153, 0, 7, 4, 167, 0, 4, 3, 96, 61, 132, 3, 1, 167, 255, 223, 28, 172]
abbrev dktX0_proofsOf_1 : List UInt8 := dkwX0_proofsOf_1 ++ []
def dkwX0_proofsOf_0 : List UInt8 := [3, 61, 3, 62, 29, 42, 180, 0, 12, 180, 0, 71, 3, 46, 162, 0, 26, 28, 42, 29, 27, 182, 0, 113]
abbrev dktX0_proofsOf_0 : List UInt8 := dkwX0_proofsOf_0 ++ dktX0_proofsOf_1
theorem dksX0_proofsOf_0 : cX0_proofsOf.data.toList.drop 0 = dktX0_proofsOf_0 := by decide +kernel
theorem dksX0_proofsOf_1 : cX0_proofsOf.data.toList.drop 24 = dktX0_proofsOf_1 := dk_seg dksX0_proofsOf_0 24 rfl rfl
theorem dX0_proofsOf_0 : decode cX0_proofsOf 0 = .ok (.iconst 0, 1) := dk_3 (dk_at dksX0_proofsOf_0 0 rfl rfl)
theorem dX0_proofsOf_1 : decode cX0_proofsOf 1 = .ok (.istore_n 2, 1) := dk_61 (dk_at dksX0_proofsOf_0 1 rfl rfl)
theorem dX0_proofsOf_2 : decode cX0_proofsOf 2 = .ok (.iconst 0, 1) := dk_3 (dk_at dksX0_proofsOf_0 2 rfl rfl)
theorem dX0_proofsOf_3 : decode cX0_proofsOf 3 = .ok (.istore_n 3, 1) := dk_62 (dk_at dksX0_proofsOf_0 3 rfl rfl)
theorem dX0_proofsOf_4 : decode cX0_proofsOf 4 = .ok (.iload_n 3, 1) := dk_29 (dk_at dksX0_proofsOf_0 4 rfl rfl)
theorem dX0_proofsOf_5 : decode cX0_proofsOf 5 = .ok (.aload_n 0, 1) := dk_42 (dk_at dksX0_proofsOf_0 5 rfl rfl)
theorem dX0_proofsOf_6 : decode cX0_proofsOf 6 = .ok (.getfield 12, 3) := dk_180 0 12 (dk_at dksX0_proofsOf_0 6 rfl rfl)
theorem dX0_proofsOf_9 : decode cX0_proofsOf 9 = .ok (.getfield 71, 3) := dk_180 0 71 (dk_at dksX0_proofsOf_0 9 rfl rfl)
theorem dX0_proofsOf_12 : decode cX0_proofsOf 12 = .ok (.iconst 0, 1) := dk_3 (dk_at dksX0_proofsOf_0 12 rfl rfl)
theorem dX0_proofsOf_13 : decode cX0_proofsOf 13 = .ok (.iaload, 1) := dk_46 (dk_at dksX0_proofsOf_0 13 rfl rfl)
theorem dX0_proofsOf_14 : decode cX0_proofsOf 14 = .ok (.if_icmp .ge 26, 3) := dk_162 0 26 (dk_at dksX0_proofsOf_0 14 rfl rfl)
theorem dX0_proofsOf_17 : decode cX0_proofsOf 17 = .ok (.iload_n 2, 1) := dk_28 (dk_at dksX0_proofsOf_0 17 rfl rfl)
theorem dX0_proofsOf_18 : decode cX0_proofsOf 18 = .ok (.aload_n 0, 1) := dk_42 (dk_at dksX0_proofsOf_0 18 rfl rfl)
theorem dX0_proofsOf_19 : decode cX0_proofsOf 19 = .ok (.iload_n 3, 1) := dk_29 (dk_at dksX0_proofsOf_0 19 rfl rfl)
theorem dX0_proofsOf_20 : decode cX0_proofsOf 20 = .ok (.iload_n 1, 1) := dk_27 (dk_at dksX0_proofsOf_0 20 rfl rfl)
theorem dX0_proofsOf_21 : decode cX0_proofsOf 21 = .ok (.invokevirtual 113, 3) := dk_182 0 113 (dk_at dksX0_proofsOf_0 21 rfl rfl)
theorem dX0_proofsOf_24 : decode cX0_proofsOf 24 = .ok (.ifCond .eq 7, 3) := dk_153 0 7 (dk_at dksX0_proofsOf_1 0 rfl rfl)
theorem dX0_proofsOf_27 : decode cX0_proofsOf 27 = .ok (.iconst 1, 1) := dk_4 (dk_at dksX0_proofsOf_1 3 rfl rfl)
theorem dX0_proofsOf_28 : decode cX0_proofsOf 28 = .ok (.goto 4, 3) := dk_167 0 4 (dk_at dksX0_proofsOf_1 4 rfl rfl)
theorem dX0_proofsOf_31 : decode cX0_proofsOf 31 = .ok (.iconst 0, 1) := dk_3 (dk_at dksX0_proofsOf_1 7 rfl rfl)
theorem dX0_proofsOf_32 : decode cX0_proofsOf 32 = .ok (.iadd, 1) := dk_96 (dk_at dksX0_proofsOf_1 8 rfl rfl)
theorem dX0_proofsOf_33 : decode cX0_proofsOf 33 = .ok (.istore_n 2, 1) := dk_61 (dk_at dksX0_proofsOf_1 9 rfl rfl)
theorem dX0_proofsOf_34 : decode cX0_proofsOf 34 = .ok (.iinc 3 1, 3) := dk_132 3 1 (dk_at dksX0_proofsOf_1 10 rfl rfl)
theorem dX0_proofsOf_37 : decode cX0_proofsOf 37 = .ok (.goto (-33), 3) := dk_167 255 223 (dk_at dksX0_proofsOf_1 13 rfl rfl)
theorem dX0_proofsOf_40 : decode cX0_proofsOf 40 = .ok (.iload_n 2, 1) := dk_28 (dk_at dksX0_proofsOf_1 16 rfl rfl)
theorem dX0_proofsOf_41 : decode cX0_proofsOf 41 = .ok (.ireturn, 1) := dk_172 (dk_at dksX0_proofsOf_1 17 rfl rfl)
def dkwX0_played_2 : List UInt8 := [154, 0, 15, 44, 29, 182, 0, 231, 192, 0, 197, 182, 0, 239, 172, 132, 3, 1, 167, 255, 218, 2, 172]
abbrev dktX0_played_2 : List UInt8 := dkwX0_played_2 ++ []
def dkwX0_played_1 : List UInt8 := [3, 62, 29, 44, 182, 0, 226, 162, 0, 36, 42, 44, 29, 182, 0, 231, 192, 0, 197, 182, 0, 235]
abbrev dktX0_played_1 : List UInt8 := dkwX0_played_1 ++ dktX0_played_2
def dkwX0_played_0 : List UInt8 := [42, 27, 182, 0, 146, 154, 0, 6, 16, 254, 172, 42, 180, 0, 12, 180, 0, 127, 27, 50, 180, 0, 222, 77]
abbrev dktX0_played_0 : List UInt8 := dkwX0_played_0 ++ dktX0_played_1
theorem dksX0_played_0 : cX0_played.data.toList.drop 0 = dktX0_played_0 := by decide +kernel
theorem dksX0_played_1 : cX0_played.data.toList.drop 24 = dktX0_played_1 := dk_seg dksX0_played_0 24 rfl rfl
theorem dksX0_played_2 : cX0_played.data.toList.drop 46 = dktX0_played_2 := dk_seg dksX0_played_1 22 rfl rfl
theorem dX0_played_0 : decode cX0_played 0 = .ok (.aload_n 0, 1) := dk_42 (dk_at dksX0_played_0 0 rfl rfl)
theorem dX0_played_1 : decode cX0_played 1 = .ok (.iload_n 1, 1) := dk_27 (dk_at dksX0_played_0 1 rfl rfl)
theorem dX0_played_2 : decode cX0_played 2 = .ok (.invokevirtual 146, 3) := dk_182 0 146 (dk_at dksX0_played_0 2 rfl rfl)
theorem dX0_played_5 : decode cX0_played 5 = .ok (.ifCond .ne 6, 3) := dk_154 0 6 (dk_at dksX0_played_0 5 rfl rfl)
theorem dX0_played_8 : decode cX0_played 8 = .ok (.bipush (-2), 2) := dk_16 254 (dk_at dksX0_played_0 8 rfl rfl)
theorem dX0_played_10 : decode cX0_played 10 = .ok (.ireturn, 1) := dk_172 (dk_at dksX0_played_0 10 rfl rfl)
theorem dX0_played_11 : decode cX0_played 11 = .ok (.aload_n 0, 1) := dk_42 (dk_at dksX0_played_0 11 rfl rfl)
theorem dX0_played_12 : decode cX0_played 12 = .ok (.getfield 12, 3) := dk_180 0 12 (dk_at dksX0_played_0 12 rfl rfl)
theorem dX0_played_15 : decode cX0_played 15 = .ok (.getfield 127, 3) := dk_180 0 127 (dk_at dksX0_played_0 15 rfl rfl)
theorem dX0_played_18 : decode cX0_played 18 = .ok (.iload_n 1, 1) := dk_27 (dk_at dksX0_played_0 18 rfl rfl)
theorem dX0_played_19 : decode cX0_played 19 = .ok (.aaload, 1) := dk_50 (dk_at dksX0_played_0 19 rfl rfl)
theorem dX0_played_20 : decode cX0_played 20 = .ok (.getfield 222, 3) := dk_180 0 222 (dk_at dksX0_played_0 20 rfl rfl)
theorem dX0_played_23 : decode cX0_played 23 = .ok (.astore_n 2, 1) := dk_77 (dk_at dksX0_played_0 23 rfl rfl)
theorem dX0_played_24 : decode cX0_played 24 = .ok (.iconst 0, 1) := dk_3 (dk_at dksX0_played_1 0 rfl rfl)
theorem dX0_played_25 : decode cX0_played 25 = .ok (.istore_n 3, 1) := dk_62 (dk_at dksX0_played_1 1 rfl rfl)
theorem dX0_played_26 : decode cX0_played 26 = .ok (.iload_n 3, 1) := dk_29 (dk_at dksX0_played_1 2 rfl rfl)
theorem dX0_played_27 : decode cX0_played 27 = .ok (.aload_n 2, 1) := dk_44 (dk_at dksX0_played_1 3 rfl rfl)
theorem dX0_played_28 : decode cX0_played 28 = .ok (.invokevirtual 226, 3) := dk_182 0 226 (dk_at dksX0_played_1 4 rfl rfl)
theorem dX0_played_31 : decode cX0_played 31 = .ok (.if_icmp .ge 36, 3) := dk_162 0 36 (dk_at dksX0_played_1 7 rfl rfl)
theorem dX0_played_34 : decode cX0_played 34 = .ok (.aload_n 0, 1) := dk_42 (dk_at dksX0_played_1 10 rfl rfl)
theorem dX0_played_35 : decode cX0_played 35 = .ok (.aload_n 2, 1) := dk_44 (dk_at dksX0_played_1 11 rfl rfl)
theorem dX0_played_36 : decode cX0_played 36 = .ok (.iload_n 3, 1) := dk_29 (dk_at dksX0_played_1 12 rfl rfl)
theorem dX0_played_37 : decode cX0_played 37 = .ok (.invokevirtual 231, 3) := dk_182 0 231 (dk_at dksX0_played_1 13 rfl rfl)
theorem dX0_played_40 : decode cX0_played 40 = .ok (.checkcast 197, 3) := dk_192 0 197 (dk_at dksX0_played_1 16 rfl rfl)
theorem dX0_played_43 : decode cX0_played 43 = .ok (.invokevirtual 235, 3) := dk_182 0 235 (dk_at dksX0_played_1 19 rfl rfl)
theorem dX0_played_46 : decode cX0_played 46 = .ok (.ifCond .ne 15, 3) := dk_154 0 15 (dk_at dksX0_played_2 0 rfl rfl)
theorem dX0_played_49 : decode cX0_played 49 = .ok (.aload_n 2, 1) := dk_44 (dk_at dksX0_played_2 3 rfl rfl)
theorem dX0_played_50 : decode cX0_played 50 = .ok (.iload_n 3, 1) := dk_29 (dk_at dksX0_played_2 4 rfl rfl)
theorem dX0_played_51 : decode cX0_played 51 = .ok (.invokevirtual 231, 3) := dk_182 0 231 (dk_at dksX0_played_2 5 rfl rfl)
theorem dX0_played_54 : decode cX0_played 54 = .ok (.checkcast 197, 3) := dk_192 0 197 (dk_at dksX0_played_2 8 rfl rfl)
theorem dX0_played_57 : decode cX0_played 57 = .ok (.invokevirtual 239, 3) := dk_182 0 239 (dk_at dksX0_played_2 11 rfl rfl)
theorem dX0_played_60 : decode cX0_played 60 = .ok (.ireturn, 1) := dk_172 (dk_at dksX0_played_2 14 rfl rfl)
theorem dX0_played_61 : decode cX0_played 61 = .ok (.iinc 3 1, 3) := dk_132 3 1 (dk_at dksX0_played_2 15 rfl rfl)
theorem dX0_played_64 : decode cX0_played 64 = .ok (.goto (-38), 3) := dk_167 255 218 (dk_at dksX0_played_2 18 rfl rfl)
theorem dX0_played_67 : decode cX0_played 67 = .ok (.iconst (-1), 1) := dk_2 (dk_at dksX0_played_2 21 rfl rfl)
theorem dX0_played_68 : decode cX0_played 68 = .ok (.ireturn, 1) := dk_172 (dk_at dksX0_played_2 22 rfl rfl)
def dkwX0_does_5 : List UInt8 := [2, 159, 0, 7, 4, 167, 0, 4, 3, 172]
abbrev dktX0_does_5 : List UInt8 := dkwX0_does_5 ++ []
def dkwX0_does_4 : List UInt8 := [182, 0, 201, 182, 0, 216, 2, 159, 0, 7, 4, 167, 0, 4, 3, 172, 42, 43, 182, 0, 201, 182, 0, 219]
abbrev dktX0_does_4 : List UInt8 := dkwX0_does_4 ++ dktX0_does_5
def dkwX0_does_3 : List UInt8 := [182, 0, 204, 182, 0, 210, 172, 42, 43, 182, 0, 201, 43, 182, 0, 204, 182, 0, 213, 172, 42, 43]
abbrev dktX0_does_3 : List UInt8 := dkwX0_does_3 ++ dktX0_does_4
def dkwX0_does_2 : List UInt8 := [42, 43, 182, 0, 201, 43, 182, 0, 204, 43, 182, 0, 207, 182, 0, 163, 172, 42, 43, 182, 0, 201, 43]
abbrev dktX0_does_2 : List UInt8 := dkwX0_does_2 ++ dktX0_does_3
def dkwX0_does_1 : List UInt8 := [170, 0, 0, 0, 0, 0, 0, 93, 0, 0, 0, 204, 0, 0, 0, 207, 0, 0, 0, 32, 0, 0, 0, 49, 0, 0, 0, 62, 0, 0, 0, 75]
abbrev dktX0_does_1 : List UInt8 := dkwX0_does_1 ++ dktX0_does_2
def dkwX0_does_0 : List UInt8 := [43, 182, 0, 196]
abbrev dktX0_does_0 : List UInt8 := dkwX0_does_0 ++ dktX0_does_1
theorem dksX0_does_0 : cX0_does.data.toList.drop 0 = dktX0_does_0 := by decide +kernel
theorem dksX0_does_1 : cX0_does.data.toList.drop 4 = dktX0_does_1 := dk_seg dksX0_does_0 4 rfl rfl
theorem dksX0_does_2 : cX0_does.data.toList.drop 36 = dktX0_does_2 := dk_seg dksX0_does_1 32 rfl rfl
theorem dksX0_does_3 : cX0_does.data.toList.drop 59 = dktX0_does_3 := dk_seg dksX0_does_2 23 rfl rfl
theorem dksX0_does_4 : cX0_does.data.toList.drop 81 = dktX0_does_4 := dk_seg dksX0_does_3 22 rfl rfl
theorem dksX0_does_5 : cX0_does.data.toList.drop 105 = dktX0_does_5 := dk_seg dksX0_does_4 24 rfl rfl
theorem dX0_does_0 : decode cX0_does 0 = .ok (.aload_n 1, 1) := dk_43 (dk_at dksX0_does_0 0 rfl rfl)
theorem dX0_does_1 : decode cX0_does 1 = .ok (.invokevirtual 196, 3) := dk_182 0 196 (dk_at dksX0_does_0 1 rfl rfl)
theorem dX0_does_4 : decode cX0_does 4 = .ok (.tableswitch 93 204 207 #[32, 49, 62, 75], 32) := by decide +kernel
theorem dX0_does_36 : decode cX0_does 36 = .ok (.aload_n 0, 1) := dk_42 (dk_at dksX0_does_2 0 rfl rfl)
theorem dX0_does_37 : decode cX0_does 37 = .ok (.aload_n 1, 1) := dk_43 (dk_at dksX0_does_2 1 rfl rfl)
theorem dX0_does_38 : decode cX0_does 38 = .ok (.invokevirtual 201, 3) := dk_182 0 201 (dk_at dksX0_does_2 2 rfl rfl)
theorem dX0_does_41 : decode cX0_does 41 = .ok (.aload_n 1, 1) := dk_43 (dk_at dksX0_does_2 5 rfl rfl)
theorem dX0_does_42 : decode cX0_does 42 = .ok (.invokevirtual 204, 3) := dk_182 0 204 (dk_at dksX0_does_2 6 rfl rfl)
theorem dX0_does_45 : decode cX0_does 45 = .ok (.aload_n 1, 1) := dk_43 (dk_at dksX0_does_2 9 rfl rfl)
theorem dX0_does_46 : decode cX0_does 46 = .ok (.invokevirtual 207, 3) := dk_182 0 207 (dk_at dksX0_does_2 10 rfl rfl)
theorem dX0_does_49 : decode cX0_does 49 = .ok (.invokevirtual 163, 3) := dk_182 0 163 (dk_at dksX0_does_2 13 rfl rfl)
theorem dX0_does_52 : decode cX0_does 52 = .ok (.ireturn, 1) := dk_172 (dk_at dksX0_does_2 16 rfl rfl)
theorem dX0_does_53 : decode cX0_does 53 = .ok (.aload_n 0, 1) := dk_42 (dk_at dksX0_does_2 17 rfl rfl)
theorem dX0_does_54 : decode cX0_does 54 = .ok (.aload_n 1, 1) := dk_43 (dk_at dksX0_does_2 18 rfl rfl)
theorem dX0_does_55 : decode cX0_does 55 = .ok (.invokevirtual 201, 3) := dk_182 0 201 (dk_at dksX0_does_2 19 rfl rfl)
theorem dX0_does_58 : decode cX0_does 58 = .ok (.aload_n 1, 1) := dk_43 (dk_at dksX0_does_2 22 rfl rfl)
theorem dX0_does_59 : decode cX0_does 59 = .ok (.invokevirtual 204, 3) := dk_182 0 204 (dk_at dksX0_does_3 0 rfl rfl)
theorem dX0_does_62 : decode cX0_does 62 = .ok (.invokevirtual 210, 3) := dk_182 0 210 (dk_at dksX0_does_3 3 rfl rfl)
theorem dX0_does_65 : decode cX0_does 65 = .ok (.ireturn, 1) := dk_172 (dk_at dksX0_does_3 6 rfl rfl)
theorem dX0_does_66 : decode cX0_does 66 = .ok (.aload_n 0, 1) := dk_42 (dk_at dksX0_does_3 7 rfl rfl)
theorem dX0_does_67 : decode cX0_does 67 = .ok (.aload_n 1, 1) := dk_43 (dk_at dksX0_does_3 8 rfl rfl)
theorem dX0_does_68 : decode cX0_does 68 = .ok (.invokevirtual 201, 3) := dk_182 0 201 (dk_at dksX0_does_3 9 rfl rfl)
theorem dX0_does_71 : decode cX0_does 71 = .ok (.aload_n 1, 1) := dk_43 (dk_at dksX0_does_3 12 rfl rfl)
theorem dX0_does_72 : decode cX0_does 72 = .ok (.invokevirtual 204, 3) := dk_182 0 204 (dk_at dksX0_does_3 13 rfl rfl)
theorem dX0_does_75 : decode cX0_does 75 = .ok (.invokevirtual 213, 3) := dk_182 0 213 (dk_at dksX0_does_3 16 rfl rfl)
theorem dX0_does_78 : decode cX0_does 78 = .ok (.ireturn, 1) := dk_172 (dk_at dksX0_does_3 19 rfl rfl)
theorem dX0_does_79 : decode cX0_does 79 = .ok (.aload_n 0, 1) := dk_42 (dk_at dksX0_does_3 20 rfl rfl)
theorem dX0_does_80 : decode cX0_does 80 = .ok (.aload_n 1, 1) := dk_43 (dk_at dksX0_does_3 21 rfl rfl)
theorem dX0_does_81 : decode cX0_does 81 = .ok (.invokevirtual 201, 3) := dk_182 0 201 (dk_at dksX0_does_4 0 rfl rfl)
theorem dX0_does_84 : decode cX0_does 84 = .ok (.invokevirtual 216, 3) := dk_182 0 216 (dk_at dksX0_does_4 3 rfl rfl)
theorem dX0_does_87 : decode cX0_does 87 = .ok (.iconst (-1), 1) := dk_2 (dk_at dksX0_does_4 6 rfl rfl)
theorem dX0_does_88 : decode cX0_does 88 = .ok (.if_icmp .eq 7, 3) := dk_159 0 7 (dk_at dksX0_does_4 7 rfl rfl)
theorem dX0_does_91 : decode cX0_does 91 = .ok (.iconst 1, 1) := dk_4 (dk_at dksX0_does_4 10 rfl rfl)
theorem dX0_does_92 : decode cX0_does 92 = .ok (.goto 4, 3) := dk_167 0 4 (dk_at dksX0_does_4 11 rfl rfl)
theorem dX0_does_95 : decode cX0_does 95 = .ok (.iconst 0, 1) := dk_3 (dk_at dksX0_does_4 14 rfl rfl)
theorem dX0_does_96 : decode cX0_does 96 = .ok (.ireturn, 1) := dk_172 (dk_at dksX0_does_4 15 rfl rfl)
theorem dX0_does_97 : decode cX0_does 97 = .ok (.aload_n 0, 1) := dk_42 (dk_at dksX0_does_4 16 rfl rfl)
theorem dX0_does_98 : decode cX0_does 98 = .ok (.aload_n 1, 1) := dk_43 (dk_at dksX0_does_4 17 rfl rfl)
theorem dX0_does_99 : decode cX0_does 99 = .ok (.invokevirtual 201, 3) := dk_182 0 201 (dk_at dksX0_does_4 18 rfl rfl)
theorem dX0_does_102 : decode cX0_does 102 = .ok (.invokevirtual 219, 3) := dk_182 0 219 (dk_at dksX0_does_4 21 rfl rfl)
theorem dX0_does_105 : decode cX0_does 105 = .ok (.iconst (-1), 1) := dk_2 (dk_at dksX0_does_5 0 rfl rfl)
theorem dX0_does_106 : decode cX0_does 106 = .ok (.if_icmp .eq 7, 3) := dk_159 0 7 (dk_at dksX0_does_5 1 rfl rfl)
theorem dX0_does_109 : decode cX0_does 109 = .ok (.iconst 1, 1) := dk_4 (dk_at dksX0_does_5 4 rfl rfl)
theorem dX0_does_110 : decode cX0_does 110 = .ok (.goto 4, 3) := dk_167 0 4 (dk_at dksX0_does_5 5 rfl rfl)
theorem dX0_does_113 : decode cX0_does 113 = .ok (.iconst 0, 1) := dk_3 (dk_at dksX0_does_5 8 rfl rfl)
theorem dX0_does_114 : decode cX0_does 114 = .ok (.ireturn, 1) := dk_172 (dk_at dksX0_does_5 9 rfl rfl)
def dkwX0_undo_2 : List UInt8 := [180, 0, 78, 184, 0, 242, 42, 180, 0, 12, 180, 0, 71, 7, 46, 172]
abbrev dktX0_undo_2 : List UInt8 := dkwX0_undo_2 ++ []
def dkwX0_undo_1 : List UInt8 := [4, 100, 79, 42, 180, 0, 12, 180, 0, 101, 42, 180, 0, 12, 180, 0, 71, 7, 46, 50, 42, 180, 0, 12]
abbrev dktX0_undo_1 : List UInt8 := dkwX0_undo_1 ++ dktX0_undo_2
def dkwX0_undo_0 : List UInt8 := [42, 180, 0, 12, 180, 0, 71, 7, 46, 154, 0, 5, 2, 172, 42, 180, 0, 12, 180, 0, 71, 7, 92, 46]
abbrev dktX0_undo_0 : List UInt8 := dkwX0_undo_0 ++ dktX0_undo_1
theorem dksX0_undo_0 : cX0_undo.data.toList.drop 0 = dktX0_undo_0 := by decide +kernel
theorem dksX0_undo_1 : cX0_undo.data.toList.drop 24 = dktX0_undo_1 := dk_seg dksX0_undo_0 24 rfl rfl
theorem dksX0_undo_2 : cX0_undo.data.toList.drop 48 = dktX0_undo_2 := dk_seg dksX0_undo_1 24 rfl rfl
theorem dX0_undo_0 : decode cX0_undo 0 = .ok (.aload_n 0, 1) := dk_42 (dk_at dksX0_undo_0 0 rfl rfl)
theorem dX0_undo_1 : decode cX0_undo 1 = .ok (.getfield 12, 3) := dk_180 0 12 (dk_at dksX0_undo_0 1 rfl rfl)
theorem dX0_undo_4 : decode cX0_undo 4 = .ok (.getfield 71, 3) := dk_180 0 71 (dk_at dksX0_undo_0 4 rfl rfl)
theorem dX0_undo_7 : decode cX0_undo 7 = .ok (.iconst 4, 1) := dk_7 (dk_at dksX0_undo_0 7 rfl rfl)
theorem dX0_undo_8 : decode cX0_undo 8 = .ok (.iaload, 1) := dk_46 (dk_at dksX0_undo_0 8 rfl rfl)
theorem dX0_undo_9 : decode cX0_undo 9 = .ok (.ifCond .ne 5, 3) := dk_154 0 5 (dk_at dksX0_undo_0 9 rfl rfl)
theorem dX0_undo_12 : decode cX0_undo 12 = .ok (.iconst (-1), 1) := dk_2 (dk_at dksX0_undo_0 12 rfl rfl)
theorem dX0_undo_13 : decode cX0_undo 13 = .ok (.ireturn, 1) := dk_172 (dk_at dksX0_undo_0 13 rfl rfl)
theorem dX0_undo_14 : decode cX0_undo 14 = .ok (.aload_n 0, 1) := dk_42 (dk_at dksX0_undo_0 14 rfl rfl)
theorem dX0_undo_15 : decode cX0_undo 15 = .ok (.getfield 12, 3) := dk_180 0 12 (dk_at dksX0_undo_0 15 rfl rfl)
theorem dX0_undo_18 : decode cX0_undo 18 = .ok (.getfield 71, 3) := dk_180 0 71 (dk_at dksX0_undo_0 18 rfl rfl)
theorem dX0_undo_21 : decode cX0_undo 21 = .ok (.iconst 4, 1) := dk_7 (dk_at dksX0_undo_0 21 rfl rfl)
theorem dX0_undo_22 : decode cX0_undo 22 = .ok (.dup2, 1) := dk_92 (dk_at dksX0_undo_0 22 rfl rfl)
theorem dX0_undo_23 : decode cX0_undo 23 = .ok (.iaload, 1) := dk_46 (dk_at dksX0_undo_0 23 rfl rfl)
theorem dX0_undo_24 : decode cX0_undo 24 = .ok (.iconst 1, 1) := dk_4 (dk_at dksX0_undo_1 0 rfl rfl)
theorem dX0_undo_25 : decode cX0_undo 25 = .ok (.isub, 1) := dk_100 (dk_at dksX0_undo_1 1 rfl rfl)
theorem dX0_undo_26 : decode cX0_undo 26 = .ok (.iastore, 1) := dk_79 (dk_at dksX0_undo_1 2 rfl rfl)
theorem dX0_undo_27 : decode cX0_undo 27 = .ok (.aload_n 0, 1) := dk_42 (dk_at dksX0_undo_1 3 rfl rfl)
theorem dX0_undo_28 : decode cX0_undo 28 = .ok (.getfield 12, 3) := dk_180 0 12 (dk_at dksX0_undo_1 4 rfl rfl)
theorem dX0_undo_31 : decode cX0_undo 31 = .ok (.getfield 101, 3) := dk_180 0 101 (dk_at dksX0_undo_1 7 rfl rfl)
theorem dX0_undo_34 : decode cX0_undo 34 = .ok (.aload_n 0, 1) := dk_42 (dk_at dksX0_undo_1 10 rfl rfl)
theorem dX0_undo_35 : decode cX0_undo 35 = .ok (.getfield 12, 3) := dk_180 0 12 (dk_at dksX0_undo_1 11 rfl rfl)
theorem dX0_undo_38 : decode cX0_undo 38 = .ok (.getfield 71, 3) := dk_180 0 71 (dk_at dksX0_undo_1 14 rfl rfl)
theorem dX0_undo_41 : decode cX0_undo 41 = .ok (.iconst 4, 1) := dk_7 (dk_at dksX0_undo_1 17 rfl rfl)
theorem dX0_undo_42 : decode cX0_undo 42 = .ok (.iaload, 1) := dk_46 (dk_at dksX0_undo_1 18 rfl rfl)
theorem dX0_undo_43 : decode cX0_undo 43 = .ok (.aaload, 1) := dk_50 (dk_at dksX0_undo_1 19 rfl rfl)
theorem dX0_undo_44 : decode cX0_undo 44 = .ok (.aload_n 0, 1) := dk_42 (dk_at dksX0_undo_1 20 rfl rfl)
theorem dX0_undo_45 : decode cX0_undo 45 = .ok (.getfield 12, 3) := dk_180 0 12 (dk_at dksX0_undo_1 21 rfl rfl)
theorem dX0_undo_48 : decode cX0_undo 48 = .ok (.getfield 78, 3) := dk_180 0 78 (dk_at dksX0_undo_2 0 rfl rfl)
theorem dX0_undo_51 : decode cX0_undo 51 = .ok (.invokestatic 242, 3) := dk_184 0 242 (dk_at dksX0_undo_2 3 rfl rfl)
theorem dX0_undo_54 : decode cX0_undo 54 = .ok (.aload_n 0, 1) := dk_42 (dk_at dksX0_undo_2 6 rfl rfl)
theorem dX0_undo_55 : decode cX0_undo 55 = .ok (.getfield 12, 3) := dk_180 0 12 (dk_at dksX0_undo_2 7 rfl rfl)
theorem dX0_undo_58 : decode cX0_undo 58 = .ok (.getfield 71, 3) := dk_180 0 71 (dk_at dksX0_undo_2 10 rfl rfl)
theorem dX0_undo_61 : decode cX0_undo 61 = .ok (.iconst 4, 1) := dk_7 (dk_at dksX0_undo_2 13 rfl rfl)
theorem dX0_undo_62 : decode cX0_undo 62 = .ok (.iaload, 1) := dk_46 (dk_at dksX0_undo_2 14 rfl rfl)
theorem dX0_undo_63 : decode cX0_undo 63 = .ok (.ireturn, 1) := dk_172 (dk_at dksX0_undo_2 15 rfl rfl)
def dkwX0_of_2 : List UInt8 := [167, 0, 16, 42, 27, 182, 1, 0, 153, 0, 7, 4, 167, 0, 4, 3, 172]
abbrev dktX0_of_2 : List UInt8 := dkwX0_of_2 ++ []
def dkwX0_of_1 : List UInt8 := [162, 0, 12, 42, 27, 28, 182, 0, 149, 167, 0, 29, 28, 8, 160, 0, 11, 42, 27, 182, 0, 153]
abbrev dktX0_of_1 : List UInt8 := dkwX0_of_1 ++ dktX0_of_2
def dkwX0_of_0 : List UInt8 := [42, 27, 182, 0, 110, 153, 0, 13, 28, 3, 16, 6, 184, 0, 74, 154, 0, 6, 16, 254, 172, 28, 8]
abbrev dktX0_of_0 : List UInt8 := dkwX0_of_0 ++ dktX0_of_1
theorem dksX0_of_0 : cX0_of.data.toList.drop 0 = dktX0_of_0 := by decide +kernel
theorem dksX0_of_1 : cX0_of.data.toList.drop 23 = dktX0_of_1 := dk_seg dksX0_of_0 23 rfl rfl
theorem dksX0_of_2 : cX0_of.data.toList.drop 45 = dktX0_of_2 := dk_seg dksX0_of_1 22 rfl rfl
theorem dX0_of_0 : decode cX0_of 0 = .ok (.aload_n 0, 1) := dk_42 (dk_at dksX0_of_0 0 rfl rfl)
theorem dX0_of_1 : decode cX0_of 1 = .ok (.iload_n 1, 1) := dk_27 (dk_at dksX0_of_0 1 rfl rfl)
theorem dX0_of_2 : decode cX0_of 2 = .ok (.invokevirtual 110, 3) := dk_182 0 110 (dk_at dksX0_of_0 2 rfl rfl)
theorem dX0_of_5 : decode cX0_of 5 = .ok (.ifCond .eq 13, 3) := dk_153 0 13 (dk_at dksX0_of_0 5 rfl rfl)
theorem dX0_of_8 : decode cX0_of 8 = .ok (.iload_n 2, 1) := dk_28 (dk_at dksX0_of_0 8 rfl rfl)
theorem dX0_of_9 : decode cX0_of 9 = .ok (.iconst 0, 1) := dk_3 (dk_at dksX0_of_0 9 rfl rfl)
theorem dX0_of_10 : decode cX0_of 10 = .ok (.bipush 6, 2) := dk_16 6 (dk_at dksX0_of_0 10 rfl rfl)
theorem dX0_of_12 : decode cX0_of 12 = .ok (.invokestatic 74, 3) := dk_184 0 74 (dk_at dksX0_of_0 12 rfl rfl)
theorem dX0_of_15 : decode cX0_of 15 = .ok (.ifCond .ne 6, 3) := dk_154 0 6 (dk_at dksX0_of_0 15 rfl rfl)
theorem dX0_of_18 : decode cX0_of 18 = .ok (.bipush (-2), 2) := dk_16 254 (dk_at dksX0_of_0 18 rfl rfl)
theorem dX0_of_20 : decode cX0_of 20 = .ok (.ireturn, 1) := dk_172 (dk_at dksX0_of_0 20 rfl rfl)
theorem dX0_of_21 : decode cX0_of 21 = .ok (.iload_n 2, 1) := dk_28 (dk_at dksX0_of_0 21 rfl rfl)
theorem dX0_of_22 : decode cX0_of 22 = .ok (.iconst 5, 1) := dk_8 (dk_at dksX0_of_0 22 rfl rfl)
theorem dX0_of_23 : decode cX0_of 23 = .ok (.if_icmp .ge 12, 3) := dk_162 0 12 (dk_at dksX0_of_1 0 rfl rfl)
theorem dX0_of_26 : decode cX0_of 26 = .ok (.aload_n 0, 1) := dk_42 (dk_at dksX0_of_1 3 rfl rfl)
theorem dX0_of_27 : decode cX0_of 27 = .ok (.iload_n 1, 1) := dk_27 (dk_at dksX0_of_1 4 rfl rfl)
theorem dX0_of_28 : decode cX0_of 28 = .ok (.iload_n 2, 1) := dk_28 (dk_at dksX0_of_1 5 rfl rfl)
theorem dX0_of_29 : decode cX0_of 29 = .ok (.invokevirtual 149, 3) := dk_182 0 149 (dk_at dksX0_of_1 6 rfl rfl)
theorem dX0_of_32 : decode cX0_of 32 = .ok (.goto 29, 3) := dk_167 0 29 (dk_at dksX0_of_1 9 rfl rfl)
theorem dX0_of_35 : decode cX0_of 35 = .ok (.iload_n 2, 1) := dk_28 (dk_at dksX0_of_1 12 rfl rfl)
theorem dX0_of_36 : decode cX0_of 36 = .ok (.iconst 5, 1) := dk_8 (dk_at dksX0_of_1 13 rfl rfl)
theorem dX0_of_37 : decode cX0_of 37 = .ok (.if_icmp .ne 11, 3) := dk_160 0 11 (dk_at dksX0_of_1 14 rfl rfl)
theorem dX0_of_40 : decode cX0_of 40 = .ok (.aload_n 0, 1) := dk_42 (dk_at dksX0_of_1 17 rfl rfl)
theorem dX0_of_41 : decode cX0_of 41 = .ok (.iload_n 1, 1) := dk_27 (dk_at dksX0_of_1 18 rfl rfl)
theorem dX0_of_42 : decode cX0_of 42 = .ok (.invokevirtual 153, 3) := dk_182 0 153 (dk_at dksX0_of_1 19 rfl rfl)
theorem dX0_of_45 : decode cX0_of 45 = .ok (.goto 16, 3) := dk_167 0 16 (dk_at dksX0_of_2 0 rfl rfl)
theorem dX0_of_48 : decode cX0_of 48 = .ok (.aload_n 0, 1) := dk_42 (dk_at dksX0_of_2 3 rfl rfl)
theorem dX0_of_49 : decode cX0_of 49 = .ok (.iload_n 1, 1) := dk_27 (dk_at dksX0_of_2 4 rfl rfl)
theorem dX0_of_50 : decode cX0_of 50 = .ok (.invokevirtual 256, 3) := dk_182 1 0 (dk_at dksX0_of_2 5 rfl rfl)
theorem dX0_of_53 : decode cX0_of 53 = .ok (.ifCond .eq 7, 3) := dk_153 0 7 (dk_at dksX0_of_2 8 rfl rfl)
theorem dX0_of_56 : decode cX0_of 56 = .ok (.iconst 1, 1) := dk_4 (dk_at dksX0_of_2 11 rfl rfl)
theorem dX0_of_57 : decode cX0_of 57 = .ok (.goto 4, 3) := dk_167 0 4 (dk_at dksX0_of_2 12 rfl rfl)
theorem dX0_of_60 : decode cX0_of 60 = .ok (.iconst 0, 1) := dk_3 (dk_at dksX0_of_2 15 rfl rfl)
theorem dX0_of_61 : decode cX0_of 61 = .ok (.ireturn, 1) := dk_172 (dk_at dksX0_of_2 16 rfl rfl)
def dkwX0_isHoly_1 : List UInt8 := [180, 0, 246, 42, 180, 0, 30, 185, 0, 250, 2, 0, 172]
abbrev dktX0_isHoly_1 : List UInt8 := dkwX0_isHoly_1 ++ []
def dkwX0_isHoly_0 : List UInt8 := [42, 182, 0, 171, 77, 44, 198, 0, 10, 44, 180, 0, 246, 199, 0, 5, 4, 172, 42, 27, 182, 0, 180, 44]
abbrev dktX0_isHoly_0 : List UInt8 := dkwX0_isHoly_0 ++ dktX0_isHoly_1
theorem dksX0_isHoly_0 : cX0_isHoly.data.toList.drop 0 = dktX0_isHoly_0 := by decide +kernel
theorem dksX0_isHoly_1 : cX0_isHoly.data.toList.drop 24 = dktX0_isHoly_1 := dk_seg dksX0_isHoly_0 24 rfl rfl
theorem dX0_isHoly_0 : decode cX0_isHoly 0 = .ok (.aload_n 0, 1) := dk_42 (dk_at dksX0_isHoly_0 0 rfl rfl)
theorem dX0_isHoly_1 : decode cX0_isHoly 1 = .ok (.invokevirtual 171, 3) := dk_182 0 171 (dk_at dksX0_isHoly_0 1 rfl rfl)
theorem dX0_isHoly_4 : decode cX0_isHoly 4 = .ok (.astore_n 2, 1) := dk_77 (dk_at dksX0_isHoly_0 4 rfl rfl)
theorem dX0_isHoly_5 : decode cX0_isHoly 5 = .ok (.aload_n 2, 1) := dk_44 (dk_at dksX0_isHoly_0 5 rfl rfl)
theorem dX0_isHoly_6 : decode cX0_isHoly 6 = .ok (.ifnull 10, 3) := dk_198 0 10 (dk_at dksX0_isHoly_0 6 rfl rfl)
theorem dX0_isHoly_9 : decode cX0_isHoly 9 = .ok (.aload_n 2, 1) := dk_44 (dk_at dksX0_isHoly_0 9 rfl rfl)
theorem dX0_isHoly_10 : decode cX0_isHoly 10 = .ok (.getfield 246, 3) := dk_180 0 246 (dk_at dksX0_isHoly_0 10 rfl rfl)
theorem dX0_isHoly_13 : decode cX0_isHoly 13 = .ok (.ifnonnull 5, 3) := dk_199 0 5 (dk_at dksX0_isHoly_0 13 rfl rfl)
theorem dX0_isHoly_16 : decode cX0_isHoly 16 = .ok (.iconst 1, 1) := dk_4 (dk_at dksX0_isHoly_0 16 rfl rfl)
theorem dX0_isHoly_17 : decode cX0_isHoly 17 = .ok (.ireturn, 1) := dk_172 (dk_at dksX0_isHoly_0 17 rfl rfl)
theorem dX0_isHoly_18 : decode cX0_isHoly 18 = .ok (.aload_n 0, 1) := dk_42 (dk_at dksX0_isHoly_0 18 rfl rfl)
theorem dX0_isHoly_19 : decode cX0_isHoly 19 = .ok (.iload_n 1, 1) := dk_27 (dk_at dksX0_isHoly_0 19 rfl rfl)
theorem dX0_isHoly_20 : decode cX0_isHoly 20 = .ok (.invokevirtual 180, 3) := dk_182 0 180 (dk_at dksX0_isHoly_0 20 rfl rfl)
theorem dX0_isHoly_23 : decode cX0_isHoly 23 = .ok (.aload_n 2, 1) := dk_44 (dk_at dksX0_isHoly_0 23 rfl rfl)
theorem dX0_isHoly_24 : decode cX0_isHoly 24 = .ok (.getfield 246, 3) := dk_180 0 246 (dk_at dksX0_isHoly_1 0 rfl rfl)
theorem dX0_isHoly_27 : decode cX0_isHoly 27 = .ok (.aload_n 0, 1) := dk_42 (dk_at dksX0_isHoly_1 3 rfl rfl)
theorem dX0_isHoly_28 : decode cX0_isHoly 28 = .ok (.getfield 30, 3) := dk_180 0 30 (dk_at dksX0_isHoly_1 4 rfl rfl)
theorem dX0_isHoly_31 : decode cX0_isHoly 31 = .ok (.invokeinterface 250 2, 5) := by decide +kernel
theorem dX0_isHoly_36 : decode cX0_isHoly 36 = .ok (.ireturn, 1) := dk_172 (dk_at dksX0_isHoly_1 12 rfl rfl)
def dkwX0_saints_3 : List UInt8 := [28, 160, 0, 10, 42, 180, 0, 37, 29, 46, 172, 132, 3, 1, 167, 255, 228, 2, 172]
abbrev dktX0_saints_3 : List UInt8 := dkwX0_saints_3 ++ []
def dkwX0_saints_2 : List UInt8 := [160, 0, 8, 42, 180, 1, 12, 172, 3, 62, 29, 42, 180, 1, 9, 162, 0, 26, 42, 180, 0, 34, 29, 46]
abbrev dktX0_saints_2 : List UInt8 := dkwX0_saints_2 ++ dktX0_saints_3
def dkwX0_saints_1 : List UInt8 := [159, 0, 11, 42, 28, 182, 0, 110, 153, 0, 11, 42, 27, 182, 1, 30, 154, 0, 6, 16, 254, 172, 28, 2]
abbrev dktX0_saints_1 : List UInt8 := dkwX0_saints_1 ++ dktX0_saints_2
def dkwX0_saints_0 : List UInt8 := [27, 3, 4, 42, 180, 0, 12, 180, 0, 71, 3, 46, 120, 4, 100, 184, 0, 74, 153, 0, 24, 28, 2]
abbrev dktX0_saints_0 : List UInt8 := dkwX0_saints_0 ++ dktX0_saints_1
theorem dksX0_saints_0 : cX0_saints.data.toList.drop 0 = dktX0_saints_0 := by decide +kernel
theorem dksX0_saints_1 : cX0_saints.data.toList.drop 23 = dktX0_saints_1 := dk_seg dksX0_saints_0 23 rfl rfl
theorem dksX0_saints_2 : cX0_saints.data.toList.drop 47 = dktX0_saints_2 := dk_seg dksX0_saints_1 24 rfl rfl
theorem dksX0_saints_3 : cX0_saints.data.toList.drop 71 = dktX0_saints_3 := dk_seg dksX0_saints_2 24 rfl rfl
theorem dX0_saints_0 : decode cX0_saints 0 = .ok (.iload_n 1, 1) := dk_27 (dk_at dksX0_saints_0 0 rfl rfl)
theorem dX0_saints_1 : decode cX0_saints 1 = .ok (.iconst 0, 1) := dk_3 (dk_at dksX0_saints_0 1 rfl rfl)
theorem dX0_saints_2 : decode cX0_saints 2 = .ok (.iconst 1, 1) := dk_4 (dk_at dksX0_saints_0 2 rfl rfl)
theorem dX0_saints_3 : decode cX0_saints 3 = .ok (.aload_n 0, 1) := dk_42 (dk_at dksX0_saints_0 3 rfl rfl)
theorem dX0_saints_4 : decode cX0_saints 4 = .ok (.getfield 12, 3) := dk_180 0 12 (dk_at dksX0_saints_0 4 rfl rfl)
theorem dX0_saints_7 : decode cX0_saints 7 = .ok (.getfield 71, 3) := dk_180 0 71 (dk_at dksX0_saints_0 7 rfl rfl)
theorem dX0_saints_10 : decode cX0_saints 10 = .ok (.iconst 0, 1) := dk_3 (dk_at dksX0_saints_0 10 rfl rfl)
theorem dX0_saints_11 : decode cX0_saints 11 = .ok (.iaload, 1) := dk_46 (dk_at dksX0_saints_0 11 rfl rfl)
theorem dX0_saints_12 : decode cX0_saints 12 = .ok (.ishl, 1) := dk_120 (dk_at dksX0_saints_0 12 rfl rfl)
theorem dX0_saints_13 : decode cX0_saints 13 = .ok (.iconst 1, 1) := dk_4 (dk_at dksX0_saints_0 13 rfl rfl)
theorem dX0_saints_14 : decode cX0_saints 14 = .ok (.isub, 1) := dk_100 (dk_at dksX0_saints_0 14 rfl rfl)
theorem dX0_saints_15 : decode cX0_saints 15 = .ok (.invokestatic 74, 3) := dk_184 0 74 (dk_at dksX0_saints_0 15 rfl rfl)
theorem dX0_saints_18 : decode cX0_saints 18 = .ok (.ifCond .eq 24, 3) := dk_153 0 24 (dk_at dksX0_saints_0 18 rfl rfl)
theorem dX0_saints_21 : decode cX0_saints 21 = .ok (.iload_n 2, 1) := dk_28 (dk_at dksX0_saints_0 21 rfl rfl)
theorem dX0_saints_22 : decode cX0_saints 22 = .ok (.iconst (-1), 1) := dk_2 (dk_at dksX0_saints_0 22 rfl rfl)
theorem dX0_saints_23 : decode cX0_saints 23 = .ok (.if_icmp .eq 11, 3) := dk_159 0 11 (dk_at dksX0_saints_1 0 rfl rfl)
theorem dX0_saints_26 : decode cX0_saints 26 = .ok (.aload_n 0, 1) := dk_42 (dk_at dksX0_saints_1 3 rfl rfl)
theorem dX0_saints_27 : decode cX0_saints 27 = .ok (.iload_n 2, 1) := dk_28 (dk_at dksX0_saints_1 4 rfl rfl)
theorem dX0_saints_28 : decode cX0_saints 28 = .ok (.invokevirtual 110, 3) := dk_182 0 110 (dk_at dksX0_saints_1 5 rfl rfl)
theorem dX0_saints_31 : decode cX0_saints 31 = .ok (.ifCond .eq 11, 3) := dk_153 0 11 (dk_at dksX0_saints_1 8 rfl rfl)
theorem dX0_saints_34 : decode cX0_saints 34 = .ok (.aload_n 0, 1) := dk_42 (dk_at dksX0_saints_1 11 rfl rfl)
theorem dX0_saints_35 : decode cX0_saints 35 = .ok (.iload_n 1, 1) := dk_27 (dk_at dksX0_saints_1 12 rfl rfl)
theorem dX0_saints_36 : decode cX0_saints 36 = .ok (.invokevirtual 286, 3) := dk_182 1 30 (dk_at dksX0_saints_1 13 rfl rfl)
theorem dX0_saints_39 : decode cX0_saints 39 = .ok (.ifCond .ne 6, 3) := dk_154 0 6 (dk_at dksX0_saints_1 16 rfl rfl)
theorem dX0_saints_42 : decode cX0_saints 42 = .ok (.bipush (-2), 2) := dk_16 254 (dk_at dksX0_saints_1 19 rfl rfl)
theorem dX0_saints_44 : decode cX0_saints 44 = .ok (.ireturn, 1) := dk_172 (dk_at dksX0_saints_1 21 rfl rfl)
theorem dX0_saints_45 : decode cX0_saints 45 = .ok (.iload_n 2, 1) := dk_28 (dk_at dksX0_saints_1 22 rfl rfl)
theorem dX0_saints_46 : decode cX0_saints 46 = .ok (.iconst (-1), 1) := dk_2 (dk_at dksX0_saints_1 23 rfl rfl)
theorem dX0_saints_47 : decode cX0_saints 47 = .ok (.if_icmp .ne 8, 3) := dk_160 0 8 (dk_at dksX0_saints_2 0 rfl rfl)
theorem dX0_saints_50 : decode cX0_saints 50 = .ok (.aload_n 0, 1) := dk_42 (dk_at dksX0_saints_2 3 rfl rfl)
theorem dX0_saints_51 : decode cX0_saints 51 = .ok (.getfield 268, 3) := dk_180 1 12 (dk_at dksX0_saints_2 4 rfl rfl)
theorem dX0_saints_54 : decode cX0_saints 54 = .ok (.ireturn, 1) := dk_172 (dk_at dksX0_saints_2 7 rfl rfl)
theorem dX0_saints_55 : decode cX0_saints 55 = .ok (.iconst 0, 1) := dk_3 (dk_at dksX0_saints_2 8 rfl rfl)
theorem dX0_saints_56 : decode cX0_saints 56 = .ok (.istore_n 3, 1) := dk_62 (dk_at dksX0_saints_2 9 rfl rfl)
theorem dX0_saints_57 : decode cX0_saints 57 = .ok (.iload_n 3, 1) := dk_29 (dk_at dksX0_saints_2 10 rfl rfl)
theorem dX0_saints_58 : decode cX0_saints 58 = .ok (.aload_n 0, 1) := dk_42 (dk_at dksX0_saints_2 11 rfl rfl)
theorem dX0_saints_59 : decode cX0_saints 59 = .ok (.getfield 265, 3) := dk_180 1 9 (dk_at dksX0_saints_2 12 rfl rfl)
theorem dX0_saints_62 : decode cX0_saints 62 = .ok (.if_icmp .ge 26, 3) := dk_162 0 26 (dk_at dksX0_saints_2 15 rfl rfl)
theorem dX0_saints_65 : decode cX0_saints 65 = .ok (.aload_n 0, 1) := dk_42 (dk_at dksX0_saints_2 18 rfl rfl)
theorem dX0_saints_66 : decode cX0_saints 66 = .ok (.getfield 34, 3) := dk_180 0 34 (dk_at dksX0_saints_2 19 rfl rfl)
theorem dX0_saints_69 : decode cX0_saints 69 = .ok (.iload_n 3, 1) := dk_29 (dk_at dksX0_saints_2 22 rfl rfl)
theorem dX0_saints_70 : decode cX0_saints 70 = .ok (.iaload, 1) := dk_46 (dk_at dksX0_saints_2 23 rfl rfl)
theorem dX0_saints_71 : decode cX0_saints 71 = .ok (.iload_n 2, 1) := dk_28 (dk_at dksX0_saints_3 0 rfl rfl)
theorem dX0_saints_72 : decode cX0_saints 72 = .ok (.if_icmp .ne 10, 3) := dk_160 0 10 (dk_at dksX0_saints_3 1 rfl rfl)
theorem dX0_saints_75 : decode cX0_saints 75 = .ok (.aload_n 0, 1) := dk_42 (dk_at dksX0_saints_3 4 rfl rfl)
theorem dX0_saints_76 : decode cX0_saints 76 = .ok (.getfield 37, 3) := dk_180 0 37 (dk_at dksX0_saints_3 5 rfl rfl)
theorem dX0_saints_79 : decode cX0_saints 79 = .ok (.iload_n 3, 1) := dk_29 (dk_at dksX0_saints_3 8 rfl rfl)
theorem dX0_saints_80 : decode cX0_saints 80 = .ok (.iaload, 1) := dk_46 (dk_at dksX0_saints_3 9 rfl rfl)
theorem dX0_saints_81 : decode cX0_saints 81 = .ok (.ireturn, 1) := dk_172 (dk_at dksX0_saints_3 10 rfl rfl)
theorem dX0_saints_82 : decode cX0_saints 82 = .ok (.iinc 3 1, 3) := dk_132 3 1 (dk_at dksX0_saints_3 11 rfl rfl)
theorem dX0_saints_85 : decode cX0_saints 85 = .ok (.goto (-28), 3) := dk_167 255 228 (dk_at dksX0_saints_3 14 rfl rfl)
theorem dX0_saints_88 : decode cX0_saints 88 = .ok (.iconst (-1), 1) := dk_2 (dk_at dksX0_saints_3 17 rfl rfl)
theorem dX0_saints_89 : decode cX0_saints 89 = .ok (.ireturn, 1) := dk_172 (dk_at dksX0_saints_3 18 rfl rfl)
def dkwX0_laysSaints_9 : List UInt8 := [180, 1, 12, 4, 96, 181, 1, 12, 167, 255, 211, 42, 89, 180, 1, 12, 4, 100, 181, 1, 12, 4, 172]
abbrev dktX0_laysSaints_9 : List UInt8 := dkwX0_laysSaints_9 ++ []
def dkwX0_laysSaints_8 : List UInt8 := [180, 0, 42, 29, 50, 3, 184, 1, 24, 132, 3, 1, 167, 255, 237, 42, 3, 3, 182, 1, 18, 61, 42, 89]
abbrev dktX0_laysSaints_8 : List UInt8 := dkwX0_laysSaints_8 ++ dktX0_laysSaints_9
def dkwX0_laysSaints_7 : List UInt8 := [167, 255, 173, 3, 61, 42, 3, 181, 1, 12, 28, 154, 0, 47, 3, 62, 29, 16, 12, 162, 0, 19, 42]
abbrev dktX0_laysSaints_7 : List UInt8 := dkwX0_laysSaints_7 ++ dktX0_laysSaints_8
def dkwX0_laysSaints_6 : List UInt8 := [28, 46, 182, 1, 21, 153, 0, 7, 4, 167, 0, 4, 3, 84, 132, 3, 1, 167, 255, 189, 132, 2, 1]
abbrev dktX0_laysSaints_6 : List UInt8 := dkwX0_laysSaints_6 ++ dktX0_laysSaints_7
def dkwX0_laysSaints_5 : List UInt8 := [46, 42, 180, 0, 34, 29, 46, 182, 1, 21, 154, 0, 22, 42, 42, 180, 0, 34, 29, 46, 42, 180, 0, 34]
abbrev dktX0_laysSaints_5 : List UInt8 := dkwX0_laysSaints_5 ++ dktX0_laysSaints_6
def dkwX0_laysSaints_4 : List UInt8 := [180, 1, 9, 162, 0, 65, 42, 180, 0, 47, 28, 50, 29, 28, 29, 159, 0, 45, 42, 42, 180, 0, 34, 28]
abbrev dktX0_laysSaints_4 : List UInt8 := dkwX0_laysSaints_4 ++ dktX0_laysSaints_5
def dkwX0_laysSaints_3 : List UInt8 := [181, 1, 9, 132, 2, 1, 167, 255, 185, 3, 61, 28, 42, 180, 1, 9, 162, 0, 81, 3, 62, 29, 42]
abbrev dktX0_laysSaints_3 : List UInt8 := dkwX0_laysSaints_3 ++ dktX0_laysSaints_4
def dkwX0_laysSaints_2 : List UInt8 := [16, 12, 160, 0, 5, 3, 172, 42, 180, 0, 34, 42, 180, 1, 9, 28, 79, 42, 89, 180, 1, 9, 4, 96]
abbrev dktX0_laysSaints_2 : List UInt8 := dkwX0_laysSaints_2 ++ dktX0_laysSaints_3
def dkwX0_laysSaints_1 : List UInt8 := [182, 0, 149, 122, 4, 126, 153, 0, 45, 42, 28, 182, 1, 0, 154, 0, 6, 167, 0, 34, 42, 180, 1, 9]
abbrev dktX0_laysSaints_1 : List UInt8 := dkwX0_laysSaints_1 ++ dktX0_laysSaints_2
def dkwX0_laysSaints_0 : List UInt8 := [42, 3, 181, 1, 9, 3, 61, 28, 42, 180, 0, 12, 180, 0, 71, 4, 46, 162, 0, 64, 27, 42, 28, 6]
abbrev dktX0_laysSaints_0 : List UInt8 := dkwX0_laysSaints_0 ++ dktX0_laysSaints_1
theorem dksX0_laysSaints_0 : cX0_laysSaints.data.toList.drop 0 = dktX0_laysSaints_0 := by decide +kernel
theorem dksX0_laysSaints_1 : cX0_laysSaints.data.toList.drop 24 = dktX0_laysSaints_1 := dk_seg dksX0_laysSaints_0 24 rfl rfl
theorem dksX0_laysSaints_2 : cX0_laysSaints.data.toList.drop 48 = dktX0_laysSaints_2 := dk_seg dksX0_laysSaints_1 24 rfl rfl
theorem dksX0_laysSaints_3 : cX0_laysSaints.data.toList.drop 72 = dktX0_laysSaints_3 := dk_seg dksX0_laysSaints_2 24 rfl rfl
theorem dksX0_laysSaints_4 : cX0_laysSaints.data.toList.drop 95 = dktX0_laysSaints_4 := dk_seg dksX0_laysSaints_3 23 rfl rfl
theorem dksX0_laysSaints_5 : cX0_laysSaints.data.toList.drop 119 = dktX0_laysSaints_5 := dk_seg dksX0_laysSaints_4 24 rfl rfl
theorem dksX0_laysSaints_6 : cX0_laysSaints.data.toList.drop 143 = dktX0_laysSaints_6 := dk_seg dksX0_laysSaints_5 24 rfl rfl
theorem dksX0_laysSaints_7 : cX0_laysSaints.data.toList.drop 166 = dktX0_laysSaints_7 := dk_seg dksX0_laysSaints_6 23 rfl rfl
theorem dksX0_laysSaints_8 : cX0_laysSaints.data.toList.drop 189 = dktX0_laysSaints_8 := dk_seg dksX0_laysSaints_7 23 rfl rfl
theorem dksX0_laysSaints_9 : cX0_laysSaints.data.toList.drop 213 = dktX0_laysSaints_9 := dk_seg dksX0_laysSaints_8 24 rfl rfl
theorem dX0_laysSaints_0 : decode cX0_laysSaints 0 = .ok (.aload_n 0, 1) := dk_42 (dk_at dksX0_laysSaints_0 0 rfl rfl)
theorem dX0_laysSaints_1 : decode cX0_laysSaints 1 = .ok (.iconst 0, 1) := dk_3 (dk_at dksX0_laysSaints_0 1 rfl rfl)
theorem dX0_laysSaints_2 : decode cX0_laysSaints 2 = .ok (.putfield 265, 3) := dk_181 1 9 (dk_at dksX0_laysSaints_0 2 rfl rfl)
theorem dX0_laysSaints_5 : decode cX0_laysSaints 5 = .ok (.iconst 0, 1) := dk_3 (dk_at dksX0_laysSaints_0 5 rfl rfl)
theorem dX0_laysSaints_6 : decode cX0_laysSaints 6 = .ok (.istore_n 2, 1) := dk_61 (dk_at dksX0_laysSaints_0 6 rfl rfl)
theorem dX0_laysSaints_7 : decode cX0_laysSaints 7 = .ok (.iload_n 2, 1) := dk_28 (dk_at dksX0_laysSaints_0 7 rfl rfl)
theorem dX0_laysSaints_8 : decode cX0_laysSaints 8 = .ok (.aload_n 0, 1) := dk_42 (dk_at dksX0_laysSaints_0 8 rfl rfl)
theorem dX0_laysSaints_9 : decode cX0_laysSaints 9 = .ok (.getfield 12, 3) := dk_180 0 12 (dk_at dksX0_laysSaints_0 9 rfl rfl)
theorem dX0_laysSaints_12 : decode cX0_laysSaints 12 = .ok (.getfield 71, 3) := dk_180 0 71 (dk_at dksX0_laysSaints_0 12 rfl rfl)
theorem dX0_laysSaints_15 : decode cX0_laysSaints 15 = .ok (.iconst 1, 1) := dk_4 (dk_at dksX0_laysSaints_0 15 rfl rfl)
theorem dX0_laysSaints_16 : decode cX0_laysSaints 16 = .ok (.iaload, 1) := dk_46 (dk_at dksX0_laysSaints_0 16 rfl rfl)
theorem dX0_laysSaints_17 : decode cX0_laysSaints 17 = .ok (.if_icmp .ge 64, 3) := dk_162 0 64 (dk_at dksX0_laysSaints_0 17 rfl rfl)
theorem dX0_laysSaints_20 : decode cX0_laysSaints 20 = .ok (.iload_n 1, 1) := dk_27 (dk_at dksX0_laysSaints_0 20 rfl rfl)
theorem dX0_laysSaints_21 : decode cX0_laysSaints 21 = .ok (.aload_n 0, 1) := dk_42 (dk_at dksX0_laysSaints_0 21 rfl rfl)
theorem dX0_laysSaints_22 : decode cX0_laysSaints 22 = .ok (.iload_n 2, 1) := dk_28 (dk_at dksX0_laysSaints_0 22 rfl rfl)
theorem dX0_laysSaints_23 : decode cX0_laysSaints 23 = .ok (.iconst 3, 1) := dk_6 (dk_at dksX0_laysSaints_0 23 rfl rfl)
theorem dX0_laysSaints_24 : decode cX0_laysSaints 24 = .ok (.invokevirtual 149, 3) := dk_182 0 149 (dk_at dksX0_laysSaints_1 0 rfl rfl)
theorem dX0_laysSaints_27 : decode cX0_laysSaints 27 = .ok (.ishr, 1) := dk_122 (dk_at dksX0_laysSaints_1 3 rfl rfl)
theorem dX0_laysSaints_28 : decode cX0_laysSaints 28 = .ok (.iconst 1, 1) := dk_4 (dk_at dksX0_laysSaints_1 4 rfl rfl)
theorem dX0_laysSaints_29 : decode cX0_laysSaints 29 = .ok (.iand, 1) := dk_126 (dk_at dksX0_laysSaints_1 5 rfl rfl)
theorem dX0_laysSaints_30 : decode cX0_laysSaints 30 = .ok (.ifCond .eq 45, 3) := dk_153 0 45 (dk_at dksX0_laysSaints_1 6 rfl rfl)
theorem dX0_laysSaints_33 : decode cX0_laysSaints 33 = .ok (.aload_n 0, 1) := dk_42 (dk_at dksX0_laysSaints_1 9 rfl rfl)
theorem dX0_laysSaints_34 : decode cX0_laysSaints 34 = .ok (.iload_n 2, 1) := dk_28 (dk_at dksX0_laysSaints_1 10 rfl rfl)
theorem dX0_laysSaints_35 : decode cX0_laysSaints 35 = .ok (.invokevirtual 256, 3) := dk_182 1 0 (dk_at dksX0_laysSaints_1 11 rfl rfl)
theorem dX0_laysSaints_38 : decode cX0_laysSaints 38 = .ok (.ifCond .ne 6, 3) := dk_154 0 6 (dk_at dksX0_laysSaints_1 14 rfl rfl)
theorem dX0_laysSaints_41 : decode cX0_laysSaints 41 = .ok (.goto 34, 3) := dk_167 0 34 (dk_at dksX0_laysSaints_1 17 rfl rfl)
theorem dX0_laysSaints_44 : decode cX0_laysSaints 44 = .ok (.aload_n 0, 1) := dk_42 (dk_at dksX0_laysSaints_1 20 rfl rfl)
theorem dX0_laysSaints_45 : decode cX0_laysSaints 45 = .ok (.getfield 265, 3) := dk_180 1 9 (dk_at dksX0_laysSaints_1 21 rfl rfl)
theorem dX0_laysSaints_48 : decode cX0_laysSaints 48 = .ok (.bipush 12, 2) := dk_16 12 (dk_at dksX0_laysSaints_2 0 rfl rfl)
theorem dX0_laysSaints_50 : decode cX0_laysSaints 50 = .ok (.if_icmp .ne 5, 3) := dk_160 0 5 (dk_at dksX0_laysSaints_2 2 rfl rfl)
theorem dX0_laysSaints_53 : decode cX0_laysSaints 53 = .ok (.iconst 0, 1) := dk_3 (dk_at dksX0_laysSaints_2 5 rfl rfl)
theorem dX0_laysSaints_54 : decode cX0_laysSaints 54 = .ok (.ireturn, 1) := dk_172 (dk_at dksX0_laysSaints_2 6 rfl rfl)
theorem dX0_laysSaints_55 : decode cX0_laysSaints 55 = .ok (.aload_n 0, 1) := dk_42 (dk_at dksX0_laysSaints_2 7 rfl rfl)
theorem dX0_laysSaints_56 : decode cX0_laysSaints 56 = .ok (.getfield 34, 3) := dk_180 0 34 (dk_at dksX0_laysSaints_2 8 rfl rfl)
theorem dX0_laysSaints_59 : decode cX0_laysSaints 59 = .ok (.aload_n 0, 1) := dk_42 (dk_at dksX0_laysSaints_2 11 rfl rfl)
theorem dX0_laysSaints_60 : decode cX0_laysSaints 60 = .ok (.getfield 265, 3) := dk_180 1 9 (dk_at dksX0_laysSaints_2 12 rfl rfl)
theorem dX0_laysSaints_63 : decode cX0_laysSaints 63 = .ok (.iload_n 2, 1) := dk_28 (dk_at dksX0_laysSaints_2 15 rfl rfl)
theorem dX0_laysSaints_64 : decode cX0_laysSaints 64 = .ok (.iastore, 1) := dk_79 (dk_at dksX0_laysSaints_2 16 rfl rfl)
theorem dX0_laysSaints_65 : decode cX0_laysSaints 65 = .ok (.aload_n 0, 1) := dk_42 (dk_at dksX0_laysSaints_2 17 rfl rfl)
theorem dX0_laysSaints_66 : decode cX0_laysSaints 66 = .ok (.dup, 1) := dk_89 (dk_at dksX0_laysSaints_2 18 rfl rfl)
theorem dX0_laysSaints_67 : decode cX0_laysSaints 67 = .ok (.getfield 265, 3) := dk_180 1 9 (dk_at dksX0_laysSaints_2 19 rfl rfl)
theorem dX0_laysSaints_70 : decode cX0_laysSaints 70 = .ok (.iconst 1, 1) := dk_4 (dk_at dksX0_laysSaints_2 22 rfl rfl)
theorem dX0_laysSaints_71 : decode cX0_laysSaints 71 = .ok (.iadd, 1) := dk_96 (dk_at dksX0_laysSaints_2 23 rfl rfl)
theorem dX0_laysSaints_72 : decode cX0_laysSaints 72 = .ok (.putfield 265, 3) := dk_181 1 9 (dk_at dksX0_laysSaints_3 0 rfl rfl)
theorem dX0_laysSaints_75 : decode cX0_laysSaints 75 = .ok (.iinc 2 1, 3) := dk_132 2 1 (dk_at dksX0_laysSaints_3 3 rfl rfl)
theorem dX0_laysSaints_78 : decode cX0_laysSaints 78 = .ok (.goto (-71), 3) := dk_167 255 185 (dk_at dksX0_laysSaints_3 6 rfl rfl)
theorem dX0_laysSaints_81 : decode cX0_laysSaints 81 = .ok (.iconst 0, 1) := dk_3 (dk_at dksX0_laysSaints_3 9 rfl rfl)
theorem dX0_laysSaints_82 : decode cX0_laysSaints 82 = .ok (.istore_n 2, 1) := dk_61 (dk_at dksX0_laysSaints_3 10 rfl rfl)
theorem dX0_laysSaints_83 : decode cX0_laysSaints 83 = .ok (.iload_n 2, 1) := dk_28 (dk_at dksX0_laysSaints_3 11 rfl rfl)
theorem dX0_laysSaints_84 : decode cX0_laysSaints 84 = .ok (.aload_n 0, 1) := dk_42 (dk_at dksX0_laysSaints_3 12 rfl rfl)
theorem dX0_laysSaints_85 : decode cX0_laysSaints 85 = .ok (.getfield 265, 3) := dk_180 1 9 (dk_at dksX0_laysSaints_3 13 rfl rfl)
theorem dX0_laysSaints_88 : decode cX0_laysSaints 88 = .ok (.if_icmp .ge 81, 3) := dk_162 0 81 (dk_at dksX0_laysSaints_3 16 rfl rfl)
theorem dX0_laysSaints_91 : decode cX0_laysSaints 91 = .ok (.iconst 0, 1) := dk_3 (dk_at dksX0_laysSaints_3 19 rfl rfl)
theorem dX0_laysSaints_92 : decode cX0_laysSaints 92 = .ok (.istore_n 3, 1) := dk_62 (dk_at dksX0_laysSaints_3 20 rfl rfl)
theorem dX0_laysSaints_93 : decode cX0_laysSaints 93 = .ok (.iload_n 3, 1) := dk_29 (dk_at dksX0_laysSaints_3 21 rfl rfl)
theorem dX0_laysSaints_94 : decode cX0_laysSaints 94 = .ok (.aload_n 0, 1) := dk_42 (dk_at dksX0_laysSaints_3 22 rfl rfl)
theorem dX0_laysSaints_95 : decode cX0_laysSaints 95 = .ok (.getfield 265, 3) := dk_180 1 9 (dk_at dksX0_laysSaints_4 0 rfl rfl)
theorem dX0_laysSaints_98 : decode cX0_laysSaints 98 = .ok (.if_icmp .ge 65, 3) := dk_162 0 65 (dk_at dksX0_laysSaints_4 3 rfl rfl)
theorem dX0_laysSaints_101 : decode cX0_laysSaints 101 = .ok (.aload_n 0, 1) := dk_42 (dk_at dksX0_laysSaints_4 6 rfl rfl)
theorem dX0_laysSaints_102 : decode cX0_laysSaints 102 = .ok (.getfield 47, 3) := dk_180 0 47 (dk_at dksX0_laysSaints_4 7 rfl rfl)
theorem dX0_laysSaints_105 : decode cX0_laysSaints 105 = .ok (.iload_n 2, 1) := dk_28 (dk_at dksX0_laysSaints_4 10 rfl rfl)
theorem dX0_laysSaints_106 : decode cX0_laysSaints 106 = .ok (.aaload, 1) := dk_50 (dk_at dksX0_laysSaints_4 11 rfl rfl)
theorem dX0_laysSaints_107 : decode cX0_laysSaints 107 = .ok (.iload_n 3, 1) := dk_29 (dk_at dksX0_laysSaints_4 12 rfl rfl)
theorem dX0_laysSaints_108 : decode cX0_laysSaints 108 = .ok (.iload_n 2, 1) := dk_28 (dk_at dksX0_laysSaints_4 13 rfl rfl)
theorem dX0_laysSaints_109 : decode cX0_laysSaints 109 = .ok (.iload_n 3, 1) := dk_29 (dk_at dksX0_laysSaints_4 14 rfl rfl)
theorem dX0_laysSaints_110 : decode cX0_laysSaints 110 = .ok (.if_icmp .eq 45, 3) := dk_159 0 45 (dk_at dksX0_laysSaints_4 15 rfl rfl)
theorem dX0_laysSaints_113 : decode cX0_laysSaints 113 = .ok (.aload_n 0, 1) := dk_42 (dk_at dksX0_laysSaints_4 18 rfl rfl)
theorem dX0_laysSaints_114 : decode cX0_laysSaints 114 = .ok (.aload_n 0, 1) := dk_42 (dk_at dksX0_laysSaints_4 19 rfl rfl)
theorem dX0_laysSaints_115 : decode cX0_laysSaints 115 = .ok (.getfield 34, 3) := dk_180 0 34 (dk_at dksX0_laysSaints_4 20 rfl rfl)
theorem dX0_laysSaints_118 : decode cX0_laysSaints 118 = .ok (.iload_n 2, 1) := dk_28 (dk_at dksX0_laysSaints_4 23 rfl rfl)
theorem dX0_laysSaints_119 : decode cX0_laysSaints 119 = .ok (.iaload, 1) := dk_46 (dk_at dksX0_laysSaints_5 0 rfl rfl)
theorem dX0_laysSaints_120 : decode cX0_laysSaints 120 = .ok (.aload_n 0, 1) := dk_42 (dk_at dksX0_laysSaints_5 1 rfl rfl)
theorem dX0_laysSaints_121 : decode cX0_laysSaints 121 = .ok (.getfield 34, 3) := dk_180 0 34 (dk_at dksX0_laysSaints_5 2 rfl rfl)
theorem dX0_laysSaints_124 : decode cX0_laysSaints 124 = .ok (.iload_n 3, 1) := dk_29 (dk_at dksX0_laysSaints_5 5 rfl rfl)
theorem dX0_laysSaints_125 : decode cX0_laysSaints 125 = .ok (.iaload, 1) := dk_46 (dk_at dksX0_laysSaints_5 6 rfl rfl)
theorem dX0_laysSaints_126 : decode cX0_laysSaints 126 = .ok (.invokevirtual 277, 3) := dk_182 1 21 (dk_at dksX0_laysSaints_5 7 rfl rfl)
theorem dX0_laysSaints_129 : decode cX0_laysSaints 129 = .ok (.ifCond .ne 22, 3) := dk_154 0 22 (dk_at dksX0_laysSaints_5 10 rfl rfl)
theorem dX0_laysSaints_132 : decode cX0_laysSaints 132 = .ok (.aload_n 0, 1) := dk_42 (dk_at dksX0_laysSaints_5 13 rfl rfl)
theorem dX0_laysSaints_133 : decode cX0_laysSaints 133 = .ok (.aload_n 0, 1) := dk_42 (dk_at dksX0_laysSaints_5 14 rfl rfl)
theorem dX0_laysSaints_134 : decode cX0_laysSaints 134 = .ok (.getfield 34, 3) := dk_180 0 34 (dk_at dksX0_laysSaints_5 15 rfl rfl)
theorem dX0_laysSaints_137 : decode cX0_laysSaints 137 = .ok (.iload_n 3, 1) := dk_29 (dk_at dksX0_laysSaints_5 18 rfl rfl)
theorem dX0_laysSaints_138 : decode cX0_laysSaints 138 = .ok (.iaload, 1) := dk_46 (dk_at dksX0_laysSaints_5 19 rfl rfl)
theorem dX0_laysSaints_139 : decode cX0_laysSaints 139 = .ok (.aload_n 0, 1) := dk_42 (dk_at dksX0_laysSaints_5 20 rfl rfl)
theorem dX0_laysSaints_140 : decode cX0_laysSaints 140 = .ok (.getfield 34, 3) := dk_180 0 34 (dk_at dksX0_laysSaints_5 21 rfl rfl)
theorem dX0_laysSaints_143 : decode cX0_laysSaints 143 = .ok (.iload_n 2, 1) := dk_28 (dk_at dksX0_laysSaints_6 0 rfl rfl)
theorem dX0_laysSaints_144 : decode cX0_laysSaints 144 = .ok (.iaload, 1) := dk_46 (dk_at dksX0_laysSaints_6 1 rfl rfl)
theorem dX0_laysSaints_145 : decode cX0_laysSaints 145 = .ok (.invokevirtual 277, 3) := dk_182 1 21 (dk_at dksX0_laysSaints_6 2 rfl rfl)
theorem dX0_laysSaints_148 : decode cX0_laysSaints 148 = .ok (.ifCond .eq 7, 3) := dk_153 0 7 (dk_at dksX0_laysSaints_6 5 rfl rfl)
theorem dX0_laysSaints_151 : decode cX0_laysSaints 151 = .ok (.iconst 1, 1) := dk_4 (dk_at dksX0_laysSaints_6 8 rfl rfl)
theorem dX0_laysSaints_152 : decode cX0_laysSaints 152 = .ok (.goto 4, 3) := dk_167 0 4 (dk_at dksX0_laysSaints_6 9 rfl rfl)
theorem dX0_laysSaints_155 : decode cX0_laysSaints 155 = .ok (.iconst 0, 1) := dk_3 (dk_at dksX0_laysSaints_6 12 rfl rfl)
theorem dX0_laysSaints_156 : decode cX0_laysSaints 156 = .ok (.bastore, 1) := dk_84 (dk_at dksX0_laysSaints_6 13 rfl rfl)
theorem dX0_laysSaints_157 : decode cX0_laysSaints 157 = .ok (.iinc 3 1, 3) := dk_132 3 1 (dk_at dksX0_laysSaints_6 14 rfl rfl)
theorem dX0_laysSaints_160 : decode cX0_laysSaints 160 = .ok (.goto (-67), 3) := dk_167 255 189 (dk_at dksX0_laysSaints_6 17 rfl rfl)
theorem dX0_laysSaints_163 : decode cX0_laysSaints 163 = .ok (.iinc 2 1, 3) := dk_132 2 1 (dk_at dksX0_laysSaints_6 20 rfl rfl)
theorem dX0_laysSaints_166 : decode cX0_laysSaints 166 = .ok (.goto (-83), 3) := dk_167 255 173 (dk_at dksX0_laysSaints_7 0 rfl rfl)
theorem dX0_laysSaints_169 : decode cX0_laysSaints 169 = .ok (.iconst 0, 1) := dk_3 (dk_at dksX0_laysSaints_7 3 rfl rfl)
theorem dX0_laysSaints_170 : decode cX0_laysSaints 170 = .ok (.istore_n 2, 1) := dk_61 (dk_at dksX0_laysSaints_7 4 rfl rfl)
theorem dX0_laysSaints_171 : decode cX0_laysSaints 171 = .ok (.aload_n 0, 1) := dk_42 (dk_at dksX0_laysSaints_7 5 rfl rfl)
theorem dX0_laysSaints_172 : decode cX0_laysSaints 172 = .ok (.iconst 0, 1) := dk_3 (dk_at dksX0_laysSaints_7 6 rfl rfl)
theorem dX0_laysSaints_173 : decode cX0_laysSaints 173 = .ok (.putfield 268, 3) := dk_181 1 12 (dk_at dksX0_laysSaints_7 7 rfl rfl)
theorem dX0_laysSaints_176 : decode cX0_laysSaints 176 = .ok (.iload_n 2, 1) := dk_28 (dk_at dksX0_laysSaints_7 10 rfl rfl)
theorem dX0_laysSaints_177 : decode cX0_laysSaints 177 = .ok (.ifCond .ne 47, 3) := dk_154 0 47 (dk_at dksX0_laysSaints_7 11 rfl rfl)
theorem dX0_laysSaints_180 : decode cX0_laysSaints 180 = .ok (.iconst 0, 1) := dk_3 (dk_at dksX0_laysSaints_7 14 rfl rfl)
theorem dX0_laysSaints_181 : decode cX0_laysSaints 181 = .ok (.istore_n 3, 1) := dk_62 (dk_at dksX0_laysSaints_7 15 rfl rfl)
theorem dX0_laysSaints_182 : decode cX0_laysSaints 182 = .ok (.iload_n 3, 1) := dk_29 (dk_at dksX0_laysSaints_7 16 rfl rfl)
theorem dX0_laysSaints_183 : decode cX0_laysSaints 183 = .ok (.bipush 12, 2) := dk_16 12 (dk_at dksX0_laysSaints_7 17 rfl rfl)
theorem dX0_laysSaints_185 : decode cX0_laysSaints 185 = .ok (.if_icmp .ge 19, 3) := dk_162 0 19 (dk_at dksX0_laysSaints_7 19 rfl rfl)
theorem dX0_laysSaints_188 : decode cX0_laysSaints 188 = .ok (.aload_n 0, 1) := dk_42 (dk_at dksX0_laysSaints_7 22 rfl rfl)
theorem dX0_laysSaints_189 : decode cX0_laysSaints 189 = .ok (.getfield 42, 3) := dk_180 0 42 (dk_at dksX0_laysSaints_8 0 rfl rfl)
theorem dX0_laysSaints_192 : decode cX0_laysSaints 192 = .ok (.iload_n 3, 1) := dk_29 (dk_at dksX0_laysSaints_8 3 rfl rfl)
theorem dX0_laysSaints_193 : decode cX0_laysSaints 193 = .ok (.aaload, 1) := dk_50 (dk_at dksX0_laysSaints_8 4 rfl rfl)
theorem dX0_laysSaints_194 : decode cX0_laysSaints 194 = .ok (.iconst 0, 1) := dk_3 (dk_at dksX0_laysSaints_8 5 rfl rfl)
theorem dX0_laysSaints_195 : decode cX0_laysSaints 195 = .ok (.invokestatic 280, 3) := dk_184 1 24 (dk_at dksX0_laysSaints_8 6 rfl rfl)
theorem dX0_laysSaints_198 : decode cX0_laysSaints 198 = .ok (.iinc 3 1, 3) := dk_132 3 1 (dk_at dksX0_laysSaints_8 9 rfl rfl)
theorem dX0_laysSaints_201 : decode cX0_laysSaints 201 = .ok (.goto (-19), 3) := dk_167 255 237 (dk_at dksX0_laysSaints_8 12 rfl rfl)
theorem dX0_laysSaints_204 : decode cX0_laysSaints 204 = .ok (.aload_n 0, 1) := dk_42 (dk_at dksX0_laysSaints_8 15 rfl rfl)
theorem dX0_laysSaints_205 : decode cX0_laysSaints 205 = .ok (.iconst 0, 1) := dk_3 (dk_at dksX0_laysSaints_8 16 rfl rfl)
theorem dX0_laysSaints_206 : decode cX0_laysSaints 206 = .ok (.iconst 0, 1) := dk_3 (dk_at dksX0_laysSaints_8 17 rfl rfl)
theorem dX0_laysSaints_207 : decode cX0_laysSaints 207 = .ok (.invokevirtual 274, 3) := dk_182 1 18 (dk_at dksX0_laysSaints_8 18 rfl rfl)
theorem dX0_laysSaints_210 : decode cX0_laysSaints 210 = .ok (.istore_n 2, 1) := dk_61 (dk_at dksX0_laysSaints_8 21 rfl rfl)
theorem dX0_laysSaints_211 : decode cX0_laysSaints 211 = .ok (.aload_n 0, 1) := dk_42 (dk_at dksX0_laysSaints_8 22 rfl rfl)
theorem dX0_laysSaints_212 : decode cX0_laysSaints 212 = .ok (.dup, 1) := dk_89 (dk_at dksX0_laysSaints_8 23 rfl rfl)
theorem dX0_laysSaints_213 : decode cX0_laysSaints 213 = .ok (.getfield 268, 3) := dk_180 1 12 (dk_at dksX0_laysSaints_9 0 rfl rfl)
theorem dX0_laysSaints_216 : decode cX0_laysSaints 216 = .ok (.iconst 1, 1) := dk_4 (dk_at dksX0_laysSaints_9 3 rfl rfl)
theorem dX0_laysSaints_217 : decode cX0_laysSaints 217 = .ok (.iadd, 1) := dk_96 (dk_at dksX0_laysSaints_9 4 rfl rfl)
theorem dX0_laysSaints_218 : decode cX0_laysSaints 218 = .ok (.putfield 268, 3) := dk_181 1 12 (dk_at dksX0_laysSaints_9 5 rfl rfl)
theorem dX0_laysSaints_221 : decode cX0_laysSaints 221 = .ok (.goto (-45), 3) := dk_167 255 211 (dk_at dksX0_laysSaints_9 8 rfl rfl)
theorem dX0_laysSaints_224 : decode cX0_laysSaints 224 = .ok (.aload_n 0, 1) := dk_42 (dk_at dksX0_laysSaints_9 11 rfl rfl)
theorem dX0_laysSaints_225 : decode cX0_laysSaints 225 = .ok (.dup, 1) := dk_89 (dk_at dksX0_laysSaints_9 12 rfl rfl)
theorem dX0_laysSaints_226 : decode cX0_laysSaints 226 = .ok (.getfield 268, 3) := dk_180 1 12 (dk_at dksX0_laysSaints_9 13 rfl rfl)
theorem dX0_laysSaints_229 : decode cX0_laysSaints 229 = .ok (.iconst 1, 1) := dk_4 (dk_at dksX0_laysSaints_9 16 rfl rfl)
theorem dX0_laysSaints_230 : decode cX0_laysSaints 230 = .ok (.isub, 1) := dk_100 (dk_at dksX0_laysSaints_9 17 rfl rfl)
theorem dX0_laysSaints_231 : decode cX0_laysSaints 231 = .ok (.putfield 268, 3) := dk_181 1 12 (dk_at dksX0_laysSaints_9 18 rfl rfl)
theorem dX0_laysSaints_234 : decode cX0_laysSaints 234 = .ok (.iconst 1, 1) := dk_4 (dk_at dksX0_laysSaints_9 21 rfl rfl)
theorem dX0_laysSaints_235 : decode cX0_laysSaints 235 = .ok (.ireturn, 1) := dk_172 (dk_at dksX0_laysSaints_9 22 rfl rfl)
def dkwX0_areUnlike_3 : List UInt8 := [185, 0, 250, 2, 0, 172]
abbrev dktX0_areUnlike_3 : List UInt8 := dkwX0_areUnlike_3 ++ []
def dkwX0_areUnlike_2 : List UInt8 := [42, 180, 0, 30, 16, 7, 42, 28, 6, 182, 0, 149, 79, 45, 180, 1, 3, 42, 180, 0, 30]
abbrev dktX0_areUnlike_2 : List UInt8 := dkwX0_areUnlike_2 ++ dktX0_areUnlike_3
def dkwX0_areUnlike_1 : List UInt8 := [180, 0, 30, 8, 42, 28, 3, 182, 0, 149, 79, 42, 180, 0, 30, 16, 6, 42, 28, 4, 182, 0, 149, 79]
abbrev dktX0_areUnlike_1 : List UInt8 := dkwX0_areUnlike_1 ++ dktX0_areUnlike_2
def dkwX0_areUnlike_0 : List UInt8 := [42, 182, 0, 171, 78, 45, 198, 0, 10, 45, 180, 1, 3, 199, 0, 5, 3, 172, 42, 27, 182, 0, 180, 42]
abbrev dktX0_areUnlike_0 : List UInt8 := dkwX0_areUnlike_0 ++ dktX0_areUnlike_1
theorem dksX0_areUnlike_0 : cX0_areUnlike.data.toList.drop 0 = dktX0_areUnlike_0 := by decide +kernel
theorem dksX0_areUnlike_1 : cX0_areUnlike.data.toList.drop 24 = dktX0_areUnlike_1 := dk_seg dksX0_areUnlike_0 24 rfl rfl
theorem dksX0_areUnlike_2 : cX0_areUnlike.data.toList.drop 48 = dktX0_areUnlike_2 := dk_seg dksX0_areUnlike_1 24 rfl rfl
theorem dksX0_areUnlike_3 : cX0_areUnlike.data.toList.drop 69 = dktX0_areUnlike_3 := dk_seg dksX0_areUnlike_2 21 rfl rfl
theorem dX0_areUnlike_0 : decode cX0_areUnlike 0 = .ok (.aload_n 0, 1) := dk_42 (dk_at dksX0_areUnlike_0 0 rfl rfl)
theorem dX0_areUnlike_1 : decode cX0_areUnlike 1 = .ok (.invokevirtual 171, 3) := dk_182 0 171 (dk_at dksX0_areUnlike_0 1 rfl rfl)
theorem dX0_areUnlike_4 : decode cX0_areUnlike 4 = .ok (.astore_n 3, 1) := dk_78 (dk_at dksX0_areUnlike_0 4 rfl rfl)
theorem dX0_areUnlike_5 : decode cX0_areUnlike 5 = .ok (.aload_n 3, 1) := dk_45 (dk_at dksX0_areUnlike_0 5 rfl rfl)
theorem dX0_areUnlike_6 : decode cX0_areUnlike 6 = .ok (.ifnull 10, 3) := dk_198 0 10 (dk_at dksX0_areUnlike_0 6 rfl rfl)
theorem dX0_areUnlike_9 : decode cX0_areUnlike 9 = .ok (.aload_n 3, 1) := dk_45 (dk_at dksX0_areUnlike_0 9 rfl rfl)
theorem dX0_areUnlike_10 : decode cX0_areUnlike 10 = .ok (.getfield 259, 3) := dk_180 1 3 (dk_at dksX0_areUnlike_0 10 rfl rfl)
theorem dX0_areUnlike_13 : decode cX0_areUnlike 13 = .ok (.ifnonnull 5, 3) := dk_199 0 5 (dk_at dksX0_areUnlike_0 13 rfl rfl)
theorem dX0_areUnlike_16 : decode cX0_areUnlike 16 = .ok (.iconst 0, 1) := dk_3 (dk_at dksX0_areUnlike_0 16 rfl rfl)
theorem dX0_areUnlike_17 : decode cX0_areUnlike 17 = .ok (.ireturn, 1) := dk_172 (dk_at dksX0_areUnlike_0 17 rfl rfl)
theorem dX0_areUnlike_18 : decode cX0_areUnlike 18 = .ok (.aload_n 0, 1) := dk_42 (dk_at dksX0_areUnlike_0 18 rfl rfl)
theorem dX0_areUnlike_19 : decode cX0_areUnlike 19 = .ok (.iload_n 1, 1) := dk_27 (dk_at dksX0_areUnlike_0 19 rfl rfl)
theorem dX0_areUnlike_20 : decode cX0_areUnlike 20 = .ok (.invokevirtual 180, 3) := dk_182 0 180 (dk_at dksX0_areUnlike_0 20 rfl rfl)
theorem dX0_areUnlike_23 : decode cX0_areUnlike 23 = .ok (.aload_n 0, 1) := dk_42 (dk_at dksX0_areUnlike_0 23 rfl rfl)
theorem dX0_areUnlike_24 : decode cX0_areUnlike 24 = .ok (.getfield 30, 3) := dk_180 0 30 (dk_at dksX0_areUnlike_1 0 rfl rfl)
theorem dX0_areUnlike_27 : decode cX0_areUnlike 27 = .ok (.iconst 5, 1) := dk_8 (dk_at dksX0_areUnlike_1 3 rfl rfl)
theorem dX0_areUnlike_28 : decode cX0_areUnlike 28 = .ok (.aload_n 0, 1) := dk_42 (dk_at dksX0_areUnlike_1 4 rfl rfl)
theorem dX0_areUnlike_29 : decode cX0_areUnlike 29 = .ok (.iload_n 2, 1) := dk_28 (dk_at dksX0_areUnlike_1 5 rfl rfl)
theorem dX0_areUnlike_30 : decode cX0_areUnlike 30 = .ok (.iconst 0, 1) := dk_3 (dk_at dksX0_areUnlike_1 6 rfl rfl)
theorem dX0_areUnlike_31 : decode cX0_areUnlike 31 = .ok (.invokevirtual 149, 3) := dk_182 0 149 (dk_at dksX0_areUnlike_1 7 rfl rfl)
theorem dX0_areUnlike_34 : decode cX0_areUnlike 34 = .ok (.iastore, 1) := dk_79 (dk_at dksX0_areUnlike_1 10 rfl rfl)
theorem dX0_areUnlike_35 : decode cX0_areUnlike 35 = .ok (.aload_n 0, 1) := dk_42 (dk_at dksX0_areUnlike_1 11 rfl rfl)
theorem dX0_areUnlike_36 : decode cX0_areUnlike 36 = .ok (.getfield 30, 3) := dk_180 0 30 (dk_at dksX0_areUnlike_1 12 rfl rfl)
theorem dX0_areUnlike_39 : decode cX0_areUnlike 39 = .ok (.bipush 6, 2) := dk_16 6 (dk_at dksX0_areUnlike_1 15 rfl rfl)
theorem dX0_areUnlike_41 : decode cX0_areUnlike 41 = .ok (.aload_n 0, 1) := dk_42 (dk_at dksX0_areUnlike_1 17 rfl rfl)
theorem dX0_areUnlike_42 : decode cX0_areUnlike 42 = .ok (.iload_n 2, 1) := dk_28 (dk_at dksX0_areUnlike_1 18 rfl rfl)
theorem dX0_areUnlike_43 : decode cX0_areUnlike 43 = .ok (.iconst 1, 1) := dk_4 (dk_at dksX0_areUnlike_1 19 rfl rfl)
theorem dX0_areUnlike_44 : decode cX0_areUnlike 44 = .ok (.invokevirtual 149, 3) := dk_182 0 149 (dk_at dksX0_areUnlike_1 20 rfl rfl)
theorem dX0_areUnlike_47 : decode cX0_areUnlike 47 = .ok (.iastore, 1) := dk_79 (dk_at dksX0_areUnlike_1 23 rfl rfl)
theorem dX0_areUnlike_48 : decode cX0_areUnlike 48 = .ok (.aload_n 0, 1) := dk_42 (dk_at dksX0_areUnlike_2 0 rfl rfl)
theorem dX0_areUnlike_49 : decode cX0_areUnlike 49 = .ok (.getfield 30, 3) := dk_180 0 30 (dk_at dksX0_areUnlike_2 1 rfl rfl)
theorem dX0_areUnlike_52 : decode cX0_areUnlike 52 = .ok (.bipush 7, 2) := dk_16 7 (dk_at dksX0_areUnlike_2 4 rfl rfl)
theorem dX0_areUnlike_54 : decode cX0_areUnlike 54 = .ok (.aload_n 0, 1) := dk_42 (dk_at dksX0_areUnlike_2 6 rfl rfl)
theorem dX0_areUnlike_55 : decode cX0_areUnlike 55 = .ok (.iload_n 2, 1) := dk_28 (dk_at dksX0_areUnlike_2 7 rfl rfl)
theorem dX0_areUnlike_56 : decode cX0_areUnlike 56 = .ok (.iconst 3, 1) := dk_6 (dk_at dksX0_areUnlike_2 8 rfl rfl)
theorem dX0_areUnlike_57 : decode cX0_areUnlike 57 = .ok (.invokevirtual 149, 3) := dk_182 0 149 (dk_at dksX0_areUnlike_2 9 rfl rfl)
theorem dX0_areUnlike_60 : decode cX0_areUnlike 60 = .ok (.iastore, 1) := dk_79 (dk_at dksX0_areUnlike_2 12 rfl rfl)
theorem dX0_areUnlike_61 : decode cX0_areUnlike 61 = .ok (.aload_n 3, 1) := dk_45 (dk_at dksX0_areUnlike_2 13 rfl rfl)
theorem dX0_areUnlike_62 : decode cX0_areUnlike 62 = .ok (.getfield 259, 3) := dk_180 1 3 (dk_at dksX0_areUnlike_2 14 rfl rfl)
theorem dX0_areUnlike_65 : decode cX0_areUnlike 65 = .ok (.aload_n 0, 1) := dk_42 (dk_at dksX0_areUnlike_2 17 rfl rfl)
theorem dX0_areUnlike_66 : decode cX0_areUnlike 66 = .ok (.getfield 30, 3) := dk_180 0 30 (dk_at dksX0_areUnlike_2 18 rfl rfl)
theorem dX0_areUnlike_69 : decode cX0_areUnlike 69 = .ok (.invokeinterface 250 2, 5) := by decide +kernel
theorem dX0_areUnlike_74 : decode cX0_areUnlike 74 = .ok (.ireturn, 1) := dk_172 (dk_at dksX0_areUnlike_3 5 rfl rfl)
def dkwX0_shares_7 : List UInt8 := [180, 0, 42, 21, 4, 50, 29, 92, 46, 4, 100, 79, 132, 4, 1, 167, 255, 101, 3, 172]
abbrev dktX0_shares_7 : List UInt8 := dkwX0_shares_7 ++ []
def dkwX0_shares_6 : List UInt8 := [4, 96, 79, 42, 27, 4, 96, 28, 21, 4, 4, 96, 184, 0, 194, 182, 1, 18, 153, 0, 5, 4, 172, 42]
abbrev dktX0_shares_6 : List UInt8 := dkwX0_shares_6 ++ dktX0_shares_7
def dkwX0_shares_5 : List UInt8 := [154, 0, 6, 167, 0, 57, 42, 180, 0, 37, 27, 21, 4, 79, 42, 180, 0, 42, 21, 4, 50, 29, 92, 46]
abbrev dktX0_shares_5 : List UInt8 := dkwX0_shares_5 ++ dktX0_shares_6
def dkwX0_shares_4 : List UInt8 := [21, 6, 50, 27, 51, 154, 0, 7, 4, 167, 0, 4, 3, 54, 5, 132, 6, 1, 167, 255, 211, 21, 5]
abbrev dktX0_shares_4 : List UInt8 := dkwX0_shares_4 ++ dktX0_shares_5
def dkwX0_shares_3 : List UInt8 := [162, 0, 45, 21, 5, 153, 0, 40, 42, 180, 0, 37, 21, 6, 46, 21, 4, 160, 0, 15, 42, 180, 0, 47]
abbrev dktX0_shares_3 : List UInt8 := dkwX0_shares_3 ++ dktX0_shares_4
def dkwX0_shares_2 : List UInt8 := [29, 46, 42, 29, 182, 1, 15, 162, 0, 7, 4, 167, 0, 4, 3, 54, 5, 3, 54, 6, 21, 6, 27]
abbrev dktX0_shares_2 : List UInt8 := dkwX0_shares_2 ++ dktX0_shares_3
def dkwX0_shares_1 : List UInt8 := [54, 4, 21, 4, 28, 163, 0, 155, 21, 4, 42, 180, 1, 12, 162, 0, 146, 42, 180, 0, 42, 21, 4, 50]
abbrev dktX0_shares_1 : List UInt8 := dkwX0_shares_1 ++ dktX0_shares_2
def dkwX0_shares_0 : List UInt8 := [27, 42, 180, 1, 9, 160, 0, 5, 4, 172, 42, 42, 180, 0, 34, 27, 46, 3, 182, 0, 149, 62, 3]
abbrev dktX0_shares_0 : List UInt8 := dkwX0_shares_0 ++ dktX0_shares_1
theorem dksX0_shares_0 : cX0_shares.data.toList.drop 0 = dktX0_shares_0 := by decide +kernel
theorem dksX0_shares_1 : cX0_shares.data.toList.drop 23 = dktX0_shares_1 := dk_seg dksX0_shares_0 23 rfl rfl
theorem dksX0_shares_2 : cX0_shares.data.toList.drop 47 = dktX0_shares_2 := dk_seg dksX0_shares_1 24 rfl rfl
theorem dksX0_shares_3 : cX0_shares.data.toList.drop 70 = dktX0_shares_3 := dk_seg dksX0_shares_2 23 rfl rfl
theorem dksX0_shares_4 : cX0_shares.data.toList.drop 94 = dktX0_shares_4 := dk_seg dksX0_shares_3 24 rfl rfl
theorem dksX0_shares_5 : cX0_shares.data.toList.drop 117 = dktX0_shares_5 := dk_seg dksX0_shares_4 23 rfl rfl
theorem dksX0_shares_6 : cX0_shares.data.toList.drop 141 = dktX0_shares_6 := dk_seg dksX0_shares_5 24 rfl rfl
theorem dksX0_shares_7 : cX0_shares.data.toList.drop 165 = dktX0_shares_7 := dk_seg dksX0_shares_6 24 rfl rfl
theorem dX0_shares_0 : decode cX0_shares 0 = .ok (.iload_n 1, 1) := dk_27 (dk_at dksX0_shares_0 0 rfl rfl)
theorem dX0_shares_1 : decode cX0_shares 1 = .ok (.aload_n 0, 1) := dk_42 (dk_at dksX0_shares_0 1 rfl rfl)
theorem dX0_shares_2 : decode cX0_shares 2 = .ok (.getfield 265, 3) := dk_180 1 9 (dk_at dksX0_shares_0 2 rfl rfl)
theorem dX0_shares_5 : decode cX0_shares 5 = .ok (.if_icmp .ne 5, 3) := dk_160 0 5 (dk_at dksX0_shares_0 5 rfl rfl)
theorem dX0_shares_8 : decode cX0_shares 8 = .ok (.iconst 1, 1) := dk_4 (dk_at dksX0_shares_0 8 rfl rfl)
theorem dX0_shares_9 : decode cX0_shares 9 = .ok (.ireturn, 1) := dk_172 (dk_at dksX0_shares_0 9 rfl rfl)
theorem dX0_shares_10 : decode cX0_shares 10 = .ok (.aload_n 0, 1) := dk_42 (dk_at dksX0_shares_0 10 rfl rfl)
theorem dX0_shares_11 : decode cX0_shares 11 = .ok (.aload_n 0, 1) := dk_42 (dk_at dksX0_shares_0 11 rfl rfl)
theorem dX0_shares_12 : decode cX0_shares 12 = .ok (.getfield 34, 3) := dk_180 0 34 (dk_at dksX0_shares_0 12 rfl rfl)
theorem dX0_shares_15 : decode cX0_shares 15 = .ok (.iload_n 1, 1) := dk_27 (dk_at dksX0_shares_0 15 rfl rfl)
theorem dX0_shares_16 : decode cX0_shares 16 = .ok (.iaload, 1) := dk_46 (dk_at dksX0_shares_0 16 rfl rfl)
theorem dX0_shares_17 : decode cX0_shares 17 = .ok (.iconst 0, 1) := dk_3 (dk_at dksX0_shares_0 17 rfl rfl)
theorem dX0_shares_18 : decode cX0_shares 18 = .ok (.invokevirtual 149, 3) := dk_182 0 149 (dk_at dksX0_shares_0 18 rfl rfl)
theorem dX0_shares_21 : decode cX0_shares 21 = .ok (.istore_n 3, 1) := dk_62 (dk_at dksX0_shares_0 21 rfl rfl)
theorem dX0_shares_22 : decode cX0_shares 22 = .ok (.iconst 0, 1) := dk_3 (dk_at dksX0_shares_0 22 rfl rfl)
theorem dX0_shares_23 : decode cX0_shares 23 = .ok (.istore 4, 2) := dk_54 4 (dk_at dksX0_shares_1 0 rfl rfl)
theorem dX0_shares_25 : decode cX0_shares 25 = .ok (.iload 4, 2) := dk_21 4 (dk_at dksX0_shares_1 2 rfl rfl)
theorem dX0_shares_27 : decode cX0_shares 27 = .ok (.iload_n 2, 1) := dk_28 (dk_at dksX0_shares_1 4 rfl rfl)
theorem dX0_shares_28 : decode cX0_shares 28 = .ok (.if_icmp .gt 155, 3) := dk_163 0 155 (dk_at dksX0_shares_1 5 rfl rfl)
theorem dX0_shares_31 : decode cX0_shares 31 = .ok (.iload 4, 2) := dk_21 4 (dk_at dksX0_shares_1 8 rfl rfl)
theorem dX0_shares_33 : decode cX0_shares 33 = .ok (.aload_n 0, 1) := dk_42 (dk_at dksX0_shares_1 10 rfl rfl)
theorem dX0_shares_34 : decode cX0_shares 34 = .ok (.getfield 268, 3) := dk_180 1 12 (dk_at dksX0_shares_1 11 rfl rfl)
theorem dX0_shares_37 : decode cX0_shares 37 = .ok (.if_icmp .ge 146, 3) := dk_162 0 146 (dk_at dksX0_shares_1 14 rfl rfl)
theorem dX0_shares_40 : decode cX0_shares 40 = .ok (.aload_n 0, 1) := dk_42 (dk_at dksX0_shares_1 17 rfl rfl)
theorem dX0_shares_41 : decode cX0_shares 41 = .ok (.getfield 42, 3) := dk_180 0 42 (dk_at dksX0_shares_1 18 rfl rfl)
theorem dX0_shares_44 : decode cX0_shares 44 = .ok (.iload 4, 2) := dk_21 4 (dk_at dksX0_shares_1 21 rfl rfl)
theorem dX0_shares_46 : decode cX0_shares 46 = .ok (.aaload, 1) := dk_50 (dk_at dksX0_shares_1 23 rfl rfl)
theorem dX0_shares_47 : decode cX0_shares 47 = .ok (.iload_n 3, 1) := dk_29 (dk_at dksX0_shares_2 0 rfl rfl)
theorem dX0_shares_48 : decode cX0_shares 48 = .ok (.iaload, 1) := dk_46 (dk_at dksX0_shares_2 1 rfl rfl)
theorem dX0_shares_49 : decode cX0_shares 49 = .ok (.aload_n 0, 1) := dk_42 (dk_at dksX0_shares_2 2 rfl rfl)
theorem dX0_shares_50 : decode cX0_shares 50 = .ok (.iload_n 3, 1) := dk_29 (dk_at dksX0_shares_2 3 rfl rfl)
theorem dX0_shares_51 : decode cX0_shares 51 = .ok (.invokevirtual 271, 3) := dk_182 1 15 (dk_at dksX0_shares_2 4 rfl rfl)
theorem dX0_shares_54 : decode cX0_shares 54 = .ok (.if_icmp .ge 7, 3) := dk_162 0 7 (dk_at dksX0_shares_2 7 rfl rfl)
theorem dX0_shares_57 : decode cX0_shares 57 = .ok (.iconst 1, 1) := dk_4 (dk_at dksX0_shares_2 10 rfl rfl)
theorem dX0_shares_58 : decode cX0_shares 58 = .ok (.goto 4, 3) := dk_167 0 4 (dk_at dksX0_shares_2 11 rfl rfl)
theorem dX0_shares_61 : decode cX0_shares 61 = .ok (.iconst 0, 1) := dk_3 (dk_at dksX0_shares_2 14 rfl rfl)
theorem dX0_shares_62 : decode cX0_shares 62 = .ok (.istore 5, 2) := dk_54 5 (dk_at dksX0_shares_2 15 rfl rfl)
theorem dX0_shares_64 : decode cX0_shares 64 = .ok (.iconst 0, 1) := dk_3 (dk_at dksX0_shares_2 17 rfl rfl)
theorem dX0_shares_65 : decode cX0_shares 65 = .ok (.istore 6, 2) := dk_54 6 (dk_at dksX0_shares_2 18 rfl rfl)
theorem dX0_shares_67 : decode cX0_shares 67 = .ok (.iload 6, 2) := dk_21 6 (dk_at dksX0_shares_2 20 rfl rfl)
theorem dX0_shares_69 : decode cX0_shares 69 = .ok (.iload_n 1, 1) := dk_27 (dk_at dksX0_shares_2 22 rfl rfl)
theorem dX0_shares_70 : decode cX0_shares 70 = .ok (.if_icmp .ge 45, 3) := dk_162 0 45 (dk_at dksX0_shares_3 0 rfl rfl)
theorem dX0_shares_73 : decode cX0_shares 73 = .ok (.iload 5, 2) := dk_21 5 (dk_at dksX0_shares_3 3 rfl rfl)
theorem dX0_shares_75 : decode cX0_shares 75 = .ok (.ifCond .eq 40, 3) := dk_153 0 40 (dk_at dksX0_shares_3 5 rfl rfl)
theorem dX0_shares_78 : decode cX0_shares 78 = .ok (.aload_n 0, 1) := dk_42 (dk_at dksX0_shares_3 8 rfl rfl)
theorem dX0_shares_79 : decode cX0_shares 79 = .ok (.getfield 37, 3) := dk_180 0 37 (dk_at dksX0_shares_3 9 rfl rfl)
theorem dX0_shares_82 : decode cX0_shares 82 = .ok (.iload 6, 2) := dk_21 6 (dk_at dksX0_shares_3 12 rfl rfl)
theorem dX0_shares_84 : decode cX0_shares 84 = .ok (.iaload, 1) := dk_46 (dk_at dksX0_shares_3 14 rfl rfl)
theorem dX0_shares_85 : decode cX0_shares 85 = .ok (.iload 4, 2) := dk_21 4 (dk_at dksX0_shares_3 15 rfl rfl)
theorem dX0_shares_87 : decode cX0_shares 87 = .ok (.if_icmp .ne 15, 3) := dk_160 0 15 (dk_at dksX0_shares_3 17 rfl rfl)
theorem dX0_shares_90 : decode cX0_shares 90 = .ok (.aload_n 0, 1) := dk_42 (dk_at dksX0_shares_3 20 rfl rfl)
theorem dX0_shares_91 : decode cX0_shares 91 = .ok (.getfield 47, 3) := dk_180 0 47 (dk_at dksX0_shares_3 21 rfl rfl)
theorem dX0_shares_94 : decode cX0_shares 94 = .ok (.iload 6, 2) := dk_21 6 (dk_at dksX0_shares_4 0 rfl rfl)
theorem dX0_shares_96 : decode cX0_shares 96 = .ok (.aaload, 1) := dk_50 (dk_at dksX0_shares_4 2 rfl rfl)
theorem dX0_shares_97 : decode cX0_shares 97 = .ok (.iload_n 1, 1) := dk_27 (dk_at dksX0_shares_4 3 rfl rfl)
theorem dX0_shares_98 : decode cX0_shares 98 = .ok (.baload, 1) := dk_51 (dk_at dksX0_shares_4 4 rfl rfl)
theorem dX0_shares_99 : decode cX0_shares 99 = .ok (.ifCond .ne 7, 3) := dk_154 0 7 (dk_at dksX0_shares_4 5 rfl rfl)
theorem dX0_shares_102 : decode cX0_shares 102 = .ok (.iconst 1, 1) := dk_4 (dk_at dksX0_shares_4 8 rfl rfl)
theorem dX0_shares_103 : decode cX0_shares 103 = .ok (.goto 4, 3) := dk_167 0 4 (dk_at dksX0_shares_4 9 rfl rfl)
theorem dX0_shares_106 : decode cX0_shares 106 = .ok (.iconst 0, 1) := dk_3 (dk_at dksX0_shares_4 12 rfl rfl)
theorem dX0_shares_107 : decode cX0_shares 107 = .ok (.istore 5, 2) := dk_54 5 (dk_at dksX0_shares_4 13 rfl rfl)
theorem dX0_shares_109 : decode cX0_shares 109 = .ok (.iinc 6 1, 3) := dk_132 6 1 (dk_at dksX0_shares_4 15 rfl rfl)
theorem dX0_shares_112 : decode cX0_shares 112 = .ok (.goto (-45), 3) := dk_167 255 211 (dk_at dksX0_shares_4 18 rfl rfl)
theorem dX0_shares_115 : decode cX0_shares 115 = .ok (.iload 5, 2) := dk_21 5 (dk_at dksX0_shares_4 21 rfl rfl)
theorem dX0_shares_117 : decode cX0_shares 117 = .ok (.ifCond .ne 6, 3) := dk_154 0 6 (dk_at dksX0_shares_5 0 rfl rfl)
theorem dX0_shares_120 : decode cX0_shares 120 = .ok (.goto 57, 3) := dk_167 0 57 (dk_at dksX0_shares_5 3 rfl rfl)
theorem dX0_shares_123 : decode cX0_shares 123 = .ok (.aload_n 0, 1) := dk_42 (dk_at dksX0_shares_5 6 rfl rfl)
theorem dX0_shares_124 : decode cX0_shares 124 = .ok (.getfield 37, 3) := dk_180 0 37 (dk_at dksX0_shares_5 7 rfl rfl)
theorem dX0_shares_127 : decode cX0_shares 127 = .ok (.iload_n 1, 1) := dk_27 (dk_at dksX0_shares_5 10 rfl rfl)
theorem dX0_shares_128 : decode cX0_shares 128 = .ok (.iload 4, 2) := dk_21 4 (dk_at dksX0_shares_5 11 rfl rfl)
theorem dX0_shares_130 : decode cX0_shares 130 = .ok (.iastore, 1) := dk_79 (dk_at dksX0_shares_5 13 rfl rfl)
theorem dX0_shares_131 : decode cX0_shares 131 = .ok (.aload_n 0, 1) := dk_42 (dk_at dksX0_shares_5 14 rfl rfl)
theorem dX0_shares_132 : decode cX0_shares 132 = .ok (.getfield 42, 3) := dk_180 0 42 (dk_at dksX0_shares_5 15 rfl rfl)
theorem dX0_shares_135 : decode cX0_shares 135 = .ok (.iload 4, 2) := dk_21 4 (dk_at dksX0_shares_5 18 rfl rfl)
theorem dX0_shares_137 : decode cX0_shares 137 = .ok (.aaload, 1) := dk_50 (dk_at dksX0_shares_5 20 rfl rfl)
theorem dX0_shares_138 : decode cX0_shares 138 = .ok (.iload_n 3, 1) := dk_29 (dk_at dksX0_shares_5 21 rfl rfl)
theorem dX0_shares_139 : decode cX0_shares 139 = .ok (.dup2, 1) := dk_92 (dk_at dksX0_shares_5 22 rfl rfl)
theorem dX0_shares_140 : decode cX0_shares 140 = .ok (.iaload, 1) := dk_46 (dk_at dksX0_shares_5 23 rfl rfl)
theorem dX0_shares_141 : decode cX0_shares 141 = .ok (.iconst 1, 1) := dk_4 (dk_at dksX0_shares_6 0 rfl rfl)
theorem dX0_shares_142 : decode cX0_shares 142 = .ok (.iadd, 1) := dk_96 (dk_at dksX0_shares_6 1 rfl rfl)
theorem dX0_shares_143 : decode cX0_shares 143 = .ok (.iastore, 1) := dk_79 (dk_at dksX0_shares_6 2 rfl rfl)
theorem dX0_shares_144 : decode cX0_shares 144 = .ok (.aload_n 0, 1) := dk_42 (dk_at dksX0_shares_6 3 rfl rfl)
theorem dX0_shares_145 : decode cX0_shares 145 = .ok (.iload_n 1, 1) := dk_27 (dk_at dksX0_shares_6 4 rfl rfl)
theorem dX0_shares_146 : decode cX0_shares 146 = .ok (.iconst 1, 1) := dk_4 (dk_at dksX0_shares_6 5 rfl rfl)
theorem dX0_shares_147 : decode cX0_shares 147 = .ok (.iadd, 1) := dk_96 (dk_at dksX0_shares_6 6 rfl rfl)
theorem dX0_shares_148 : decode cX0_shares 148 = .ok (.iload_n 2, 1) := dk_28 (dk_at dksX0_shares_6 7 rfl rfl)
theorem dX0_shares_149 : decode cX0_shares 149 = .ok (.iload 4, 2) := dk_21 4 (dk_at dksX0_shares_6 8 rfl rfl)
theorem dX0_shares_151 : decode cX0_shares 151 = .ok (.iconst 1, 1) := dk_4 (dk_at dksX0_shares_6 10 rfl rfl)
theorem dX0_shares_152 : decode cX0_shares 152 = .ok (.iadd, 1) := dk_96 (dk_at dksX0_shares_6 11 rfl rfl)
theorem dX0_shares_153 : decode cX0_shares 153 = .ok (.invokestatic 194, 3) := dk_184 0 194 (dk_at dksX0_shares_6 12 rfl rfl)
theorem dX0_shares_156 : decode cX0_shares 156 = .ok (.invokevirtual 274, 3) := dk_182 1 18 (dk_at dksX0_shares_6 15 rfl rfl)
theorem dX0_shares_159 : decode cX0_shares 159 = .ok (.ifCond .eq 5, 3) := dk_153 0 5 (dk_at dksX0_shares_6 18 rfl rfl)
theorem dX0_shares_162 : decode cX0_shares 162 = .ok (.iconst 1, 1) := dk_4 (dk_at dksX0_shares_6 21 rfl rfl)
theorem dX0_shares_163 : decode cX0_shares 163 = .ok (.ireturn, 1) := dk_172 (dk_at dksX0_shares_6 22 rfl rfl)
theorem dX0_shares_164 : decode cX0_shares 164 = .ok (.aload_n 0, 1) := dk_42 (dk_at dksX0_shares_6 23 rfl rfl)
theorem dX0_shares_165 : decode cX0_shares 165 = .ok (.getfield 42, 3) := dk_180 0 42 (dk_at dksX0_shares_7 0 rfl rfl)
theorem dX0_shares_168 : decode cX0_shares 168 = .ok (.iload 4, 2) := dk_21 4 (dk_at dksX0_shares_7 3 rfl rfl)
theorem dX0_shares_170 : decode cX0_shares 170 = .ok (.aaload, 1) := dk_50 (dk_at dksX0_shares_7 5 rfl rfl)
theorem dX0_shares_171 : decode cX0_shares 171 = .ok (.iload_n 3, 1) := dk_29 (dk_at dksX0_shares_7 6 rfl rfl)
theorem dX0_shares_172 : decode cX0_shares 172 = .ok (.dup2, 1) := dk_92 (dk_at dksX0_shares_7 7 rfl rfl)
theorem dX0_shares_173 : decode cX0_shares 173 = .ok (.iaload, 1) := dk_46 (dk_at dksX0_shares_7 8 rfl rfl)
theorem dX0_shares_174 : decode cX0_shares 174 = .ok (.iconst 1, 1) := dk_4 (dk_at dksX0_shares_7 9 rfl rfl)
theorem dX0_shares_175 : decode cX0_shares 175 = .ok (.isub, 1) := dk_100 (dk_at dksX0_shares_7 10 rfl rfl)
theorem dX0_shares_176 : decode cX0_shares 176 = .ok (.iastore, 1) := dk_79 (dk_at dksX0_shares_7 11 rfl rfl)
theorem dX0_shares_177 : decode cX0_shares 177 = .ok (.iinc 4 1, 3) := dk_132 4 1 (dk_at dksX0_shares_7 12 rfl rfl)
theorem dX0_shares_180 : decode cX0_shares 180 = .ok (.goto (-155), 3) := dk_167 255 101 (dk_at dksX0_shares_7 15 rfl rfl)
theorem dX0_shares_183 : decode cX0_shares 183 = .ok (.iconst 0, 1) := dk_3 (dk_at dksX0_shares_7 18 rfl rfl)
theorem dX0_shares_184 : decode cX0_shares 184 = .ok (.ireturn, 1) := dk_172 (dk_at dksX0_shares_7 19 rfl rfl)
