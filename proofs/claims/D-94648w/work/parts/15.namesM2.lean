set_option maxRecDepth 100000
def dkwX2_four_1 : List UInt8 := [89, 180, 0, 114, 4, 96, 181, 0, 114, 132, 2, 248, 167, 255, 223, 177]
abbrev dktX2_four_1 : List UInt8 := dkwX2_four_1 ++ []
def dkwX2_four_0 : List UInt8 := [16, 24, 61, 28, 155, 0, 35, 42, 180, 0, 19, 42, 180, 0, 114, 27, 28, 122, 17, 0, 255, 126, 79, 42]
abbrev dktX2_four_0 : List UInt8 := dkwX2_four_0 ++ dktX2_four_1
theorem dksX2_four_0 : cX2_four.data.toList.drop 0 = dktX2_four_0 := by decide +kernel
theorem dksX2_four_1 : cX2_four.data.toList.drop 24 = dktX2_four_1 := dk_seg dksX2_four_0 24 rfl rfl
theorem dX2_four_0 : decode cX2_four 0 = .ok (.bipush 24, 2) := dk_16 24 (dk_at dksX2_four_0 0 rfl rfl)
theorem dX2_four_2 : decode cX2_four 2 = .ok (.istore_n 2, 1) := dk_61 (dk_at dksX2_four_0 2 rfl rfl)
theorem dX2_four_3 : decode cX2_four 3 = .ok (.iload_n 2, 1) := dk_28 (dk_at dksX2_four_0 3 rfl rfl)
theorem dX2_four_4 : decode cX2_four 4 = .ok (.ifCond .lt 35, 3) := dk_155 0 35 (dk_at dksX2_four_0 4 rfl rfl)
theorem dX2_four_7 : decode cX2_four 7 = .ok (.aload_n 0, 1) := dk_42 (dk_at dksX2_four_0 7 rfl rfl)
theorem dX2_four_8 : decode cX2_four 8 = .ok (.getfield 19, 3) := dk_180 0 19 (dk_at dksX2_four_0 8 rfl rfl)
theorem dX2_four_11 : decode cX2_four 11 = .ok (.aload_n 0, 1) := dk_42 (dk_at dksX2_four_0 11 rfl rfl)
theorem dX2_four_12 : decode cX2_four 12 = .ok (.getfield 114, 3) := dk_180 0 114 (dk_at dksX2_four_0 12 rfl rfl)
theorem dX2_four_15 : decode cX2_four 15 = .ok (.iload_n 1, 1) := dk_27 (dk_at dksX2_four_0 15 rfl rfl)
theorem dX2_four_16 : decode cX2_four 16 = .ok (.iload_n 2, 1) := dk_28 (dk_at dksX2_four_0 16 rfl rfl)
theorem dX2_four_17 : decode cX2_four 17 = .ok (.ishr, 1) := dk_122 (dk_at dksX2_four_0 17 rfl rfl)
theorem dX2_four_18 : decode cX2_four 18 = .ok (.sipush 255, 3) := dk_17 0 255 (dk_at dksX2_four_0 18 rfl rfl)
theorem dX2_four_21 : decode cX2_four 21 = .ok (.iand, 1) := dk_126 (dk_at dksX2_four_0 21 rfl rfl)
theorem dX2_four_22 : decode cX2_four 22 = .ok (.iastore, 1) := dk_79 (dk_at dksX2_four_0 22 rfl rfl)
theorem dX2_four_23 : decode cX2_four 23 = .ok (.aload_n 0, 1) := dk_42 (dk_at dksX2_four_0 23 rfl rfl)
theorem dX2_four_24 : decode cX2_four 24 = .ok (.dup, 1) := dk_89 (dk_at dksX2_four_1 0 rfl rfl)
theorem dX2_four_25 : decode cX2_four 25 = .ok (.getfield 114, 3) := dk_180 0 114 (dk_at dksX2_four_1 1 rfl rfl)
theorem dX2_four_28 : decode cX2_four 28 = .ok (.iconst 1, 1) := dk_4 (dk_at dksX2_four_1 4 rfl rfl)
theorem dX2_four_29 : decode cX2_four 29 = .ok (.iadd, 1) := dk_96 (dk_at dksX2_four_1 5 rfl rfl)
theorem dX2_four_30 : decode cX2_four 30 = .ok (.putfield 114, 3) := dk_181 0 114 (dk_at dksX2_four_1 6 rfl rfl)
theorem dX2_four_33 : decode cX2_four 33 = .ok (.iinc 2 (-8), 3) := dk_132 2 248 (dk_at dksX2_four_1 9 rfl rfl)
theorem dX2_four_36 : decode cX2_four 36 = .ok (.goto (-33), 3) := dk_167 255 223 (dk_at dksX2_four_1 12 rfl rfl)
theorem dX2_four_39 : decode cX2_four 39 = .ok (.return_, 1) := dk_177 (dk_at dksX2_four_1 15 rfl rfl)
def dkwX2_end_0 : List UInt8 := [27, 3, 42, 180, 0, 114, 184, 0, 75, 154, 0, 5, 2, 172, 42, 27, 181, 0, 114, 27, 172]
abbrev dktX2_end_0 : List UInt8 := dkwX2_end_0 ++ []
theorem dksX2_end_0 : cX2_end.data.toList.drop 0 = dktX2_end_0 := by decide +kernel
theorem dX2_end_0 : decode cX2_end 0 = .ok (.iload_n 1, 1) := dk_27 (dk_at dksX2_end_0 0 rfl rfl)
theorem dX2_end_1 : decode cX2_end 1 = .ok (.iconst 0, 1) := dk_3 (dk_at dksX2_end_0 1 rfl rfl)
theorem dX2_end_2 : decode cX2_end 2 = .ok (.aload_n 0, 1) := dk_42 (dk_at dksX2_end_0 2 rfl rfl)
theorem dX2_end_3 : decode cX2_end 3 = .ok (.getfield 114, 3) := dk_180 0 114 (dk_at dksX2_end_0 3 rfl rfl)
theorem dX2_end_6 : decode cX2_end 6 = .ok (.invokestatic 75, 3) := dk_184 0 75 (dk_at dksX2_end_0 6 rfl rfl)
theorem dX2_end_9 : decode cX2_end 9 = .ok (.ifCond .ne 5, 3) := dk_154 0 5 (dk_at dksX2_end_0 9 rfl rfl)
theorem dX2_end_12 : decode cX2_end 12 = .ok (.iconst (-1), 1) := dk_2 (dk_at dksX2_end_0 12 rfl rfl)
theorem dX2_end_13 : decode cX2_end 13 = .ok (.ireturn, 1) := dk_172 (dk_at dksX2_end_0 13 rfl rfl)
theorem dX2_end_14 : decode cX2_end 14 = .ok (.aload_n 0, 1) := dk_42 (dk_at dksX2_end_0 14 rfl rfl)
theorem dX2_end_15 : decode cX2_end 15 = .ok (.iload_n 1, 1) := dk_27 (dk_at dksX2_end_0 15 rfl rfl)
theorem dX2_end_16 : decode cX2_end 16 = .ok (.putfield 114, 3) := dk_181 0 114 (dk_at dksX2_end_0 16 rfl rfl)
theorem dX2_end_19 : decode cX2_end 19 = .ok (.iload_n 1, 1) := dk_27 (dk_at dksX2_end_0 19 rfl rfl)
theorem dX2_end_20 : decode cX2_end 20 = .ok (.ireturn, 1) := dk_172 (dk_at dksX2_end_0 20 rfl rfl)
def dkwX2_text_3 : List UInt8 := [4, 100, 172]
abbrev dktX2_text_3 : List UInt8 := dkwX2_text_3 ++ []
def dkwX2_text_2 : List UInt8 := [180, 0, 22, 153, 0, 5, 2, 172, 42, 180, 0, 7, 6, 92, 46, 4, 96, 79, 42, 180, 0, 7, 6, 46]
abbrev dktX2_text_2 : List UInt8 := dkwX2_text_2 ++ dktX2_text_3
def dkwX2_text_1 : List UInt8 := [180, 0, 22, 154, 0, 7, 2, 167, 0, 7, 42, 180, 0, 126, 181, 0, 26, 42, 3, 181, 0, 114, 42]
abbrev dktX2_text_1 : List UInt8 := dkwX2_text_1 ++ dktX2_text_2
def dkwX2_text_0 : List UInt8 := [42, 180, 0, 7, 6, 46, 7, 160, 0, 5, 2, 172, 42, 42, 182, 1, 9, 181, 0, 22, 42, 42]
abbrev dktX2_text_0 : List UInt8 := dkwX2_text_0 ++ dktX2_text_1
theorem dksX2_text_0 : cX2_text.data.toList.drop 0 = dktX2_text_0 := by decide +kernel
theorem dksX2_text_1 : cX2_text.data.toList.drop 22 = dktX2_text_1 := dk_seg dksX2_text_0 22 rfl rfl
theorem dksX2_text_2 : cX2_text.data.toList.drop 45 = dktX2_text_2 := dk_seg dksX2_text_1 23 rfl rfl
theorem dksX2_text_3 : cX2_text.data.toList.drop 69 = dktX2_text_3 := dk_seg dksX2_text_2 24 rfl rfl
theorem dX2_text_0 : decode cX2_text 0 = .ok (.aload_n 0, 1) := dk_42 (dk_at dksX2_text_0 0 rfl rfl)
theorem dX2_text_1 : decode cX2_text 1 = .ok (.getfield 7, 3) := dk_180 0 7 (dk_at dksX2_text_0 1 rfl rfl)
theorem dX2_text_4 : decode cX2_text 4 = .ok (.iconst 3, 1) := dk_6 (dk_at dksX2_text_0 4 rfl rfl)
theorem dX2_text_5 : decode cX2_text 5 = .ok (.iaload, 1) := dk_46 (dk_at dksX2_text_0 5 rfl rfl)
theorem dX2_text_6 : decode cX2_text 6 = .ok (.iconst 4, 1) := dk_7 (dk_at dksX2_text_0 6 rfl rfl)
theorem dX2_text_7 : decode cX2_text 7 = .ok (.if_icmp .ne 5, 3) := dk_160 0 5 (dk_at dksX2_text_0 7 rfl rfl)
theorem dX2_text_10 : decode cX2_text 10 = .ok (.iconst (-1), 1) := dk_2 (dk_at dksX2_text_0 10 rfl rfl)
theorem dX2_text_11 : decode cX2_text 11 = .ok (.ireturn, 1) := dk_172 (dk_at dksX2_text_0 11 rfl rfl)
theorem dX2_text_12 : decode cX2_text 12 = .ok (.aload_n 0, 1) := dk_42 (dk_at dksX2_text_0 12 rfl rfl)
theorem dX2_text_13 : decode cX2_text 13 = .ok (.aload_n 0, 1) := dk_42 (dk_at dksX2_text_0 13 rfl rfl)
theorem dX2_text_14 : decode cX2_text 14 = .ok (.invokevirtual 265, 3) := dk_182 1 9 (dk_at dksX2_text_0 14 rfl rfl)
theorem dX2_text_17 : decode cX2_text 17 = .ok (.putfield 22, 3) := dk_181 0 22 (dk_at dksX2_text_0 17 rfl rfl)
theorem dX2_text_20 : decode cX2_text 20 = .ok (.aload_n 0, 1) := dk_42 (dk_at dksX2_text_0 20 rfl rfl)
theorem dX2_text_21 : decode cX2_text 21 = .ok (.aload_n 0, 1) := dk_42 (dk_at dksX2_text_0 21 rfl rfl)
theorem dX2_text_22 : decode cX2_text 22 = .ok (.getfield 22, 3) := dk_180 0 22 (dk_at dksX2_text_1 0 rfl rfl)
theorem dX2_text_25 : decode cX2_text 25 = .ok (.ifCond .ne 7, 3) := dk_154 0 7 (dk_at dksX2_text_1 3 rfl rfl)
theorem dX2_text_28 : decode cX2_text 28 = .ok (.iconst (-1), 1) := dk_2 (dk_at dksX2_text_1 6 rfl rfl)
theorem dX2_text_29 : decode cX2_text 29 = .ok (.goto 7, 3) := dk_167 0 7 (dk_at dksX2_text_1 7 rfl rfl)
theorem dX2_text_32 : decode cX2_text 32 = .ok (.aload_n 0, 1) := dk_42 (dk_at dksX2_text_1 10 rfl rfl)
theorem dX2_text_33 : decode cX2_text 33 = .ok (.getfield 126, 3) := dk_180 0 126 (dk_at dksX2_text_1 11 rfl rfl)
theorem dX2_text_36 : decode cX2_text 36 = .ok (.putfield 26, 3) := dk_181 0 26 (dk_at dksX2_text_1 14 rfl rfl)
theorem dX2_text_39 : decode cX2_text 39 = .ok (.aload_n 0, 1) := dk_42 (dk_at dksX2_text_1 17 rfl rfl)
theorem dX2_text_40 : decode cX2_text 40 = .ok (.iconst 0, 1) := dk_3 (dk_at dksX2_text_1 18 rfl rfl)
theorem dX2_text_41 : decode cX2_text 41 = .ok (.putfield 114, 3) := dk_181 0 114 (dk_at dksX2_text_1 19 rfl rfl)
theorem dX2_text_44 : decode cX2_text 44 = .ok (.aload_n 0, 1) := dk_42 (dk_at dksX2_text_1 22 rfl rfl)
theorem dX2_text_45 : decode cX2_text 45 = .ok (.getfield 22, 3) := dk_180 0 22 (dk_at dksX2_text_2 0 rfl rfl)
theorem dX2_text_48 : decode cX2_text 48 = .ok (.ifCond .eq 5, 3) := dk_153 0 5 (dk_at dksX2_text_2 3 rfl rfl)
theorem dX2_text_51 : decode cX2_text 51 = .ok (.iconst (-1), 1) := dk_2 (dk_at dksX2_text_2 6 rfl rfl)
theorem dX2_text_52 : decode cX2_text 52 = .ok (.ireturn, 1) := dk_172 (dk_at dksX2_text_2 7 rfl rfl)
theorem dX2_text_53 : decode cX2_text 53 = .ok (.aload_n 0, 1) := dk_42 (dk_at dksX2_text_2 8 rfl rfl)
theorem dX2_text_54 : decode cX2_text 54 = .ok (.getfield 7, 3) := dk_180 0 7 (dk_at dksX2_text_2 9 rfl rfl)
theorem dX2_text_57 : decode cX2_text 57 = .ok (.iconst 3, 1) := dk_6 (dk_at dksX2_text_2 12 rfl rfl)
theorem dX2_text_58 : decode cX2_text 58 = .ok (.dup2, 1) := dk_92 (dk_at dksX2_text_2 13 rfl rfl)
theorem dX2_text_59 : decode cX2_text 59 = .ok (.iaload, 1) := dk_46 (dk_at dksX2_text_2 14 rfl rfl)
theorem dX2_text_60 : decode cX2_text 60 = .ok (.iconst 1, 1) := dk_4 (dk_at dksX2_text_2 15 rfl rfl)
theorem dX2_text_61 : decode cX2_text 61 = .ok (.iadd, 1) := dk_96 (dk_at dksX2_text_2 16 rfl rfl)
theorem dX2_text_62 : decode cX2_text 62 = .ok (.iastore, 1) := dk_79 (dk_at dksX2_text_2 17 rfl rfl)
theorem dX2_text_63 : decode cX2_text 63 = .ok (.aload_n 0, 1) := dk_42 (dk_at dksX2_text_2 18 rfl rfl)
theorem dX2_text_64 : decode cX2_text 64 = .ok (.getfield 7, 3) := dk_180 0 7 (dk_at dksX2_text_2 19 rfl rfl)
theorem dX2_text_67 : decode cX2_text 67 = .ok (.iconst 3, 1) := dk_6 (dk_at dksX2_text_2 22 rfl rfl)
theorem dX2_text_68 : decode cX2_text 68 = .ok (.iaload, 1) := dk_46 (dk_at dksX2_text_2 23 rfl rfl)
theorem dX2_text_69 : decode cX2_text 69 = .ok (.iconst 1, 1) := dk_4 (dk_at dksX2_text_3 0 rfl rfl)
theorem dX2_text_70 : decode cX2_text 70 = .ok (.isub, 1) := dk_100 (dk_at dksX2_text_3 1 rfl rfl)
theorem dX2_text_71 : decode cX2_text 71 = .ok (.ireturn, 1) := dk_172 (dk_at dksX2_text_3 2 rfl rfl)
def dkwX2_readText_2 : List UInt8 := [42, 180, 0, 129, 153, 0, 17, 42, 182, 1, 6, 60, 27, 153, 0, 5, 27, 172, 167, 255, 238, 3, 172]
abbrev dktX2_readText_2 : List UInt8 := dkwX2_readText_2 ++ []
def dkwX2_readText_1 : List UInt8 := [42, 3, 181, 0, 157, 42, 3, 181, 0, 167, 42, 3, 181, 0, 253, 42, 3, 181, 0, 120, 42, 182, 0, 184]
abbrev dktX2_readText_1 : List UInt8 := dkwX2_readText_1 ++ dktX2_readText_2
def dkwX2_readText_0 : List UInt8 := [42, 17, 2, 188, 42, 180, 0, 7, 6, 46, 104, 181, 0, 154, 42, 180, 0, 16, 42, 180, 0, 154, 3, 79]
abbrev dktX2_readText_0 : List UInt8 := dkwX2_readText_0 ++ dktX2_readText_1
theorem dksX2_readText_0 : cX2_readText.data.toList.drop 0 = dktX2_readText_0 := by decide +kernel
theorem dksX2_readText_1 : cX2_readText.data.toList.drop 24 = dktX2_readText_1 := dk_seg dksX2_readText_0 24 rfl rfl
theorem dksX2_readText_2 : cX2_readText.data.toList.drop 48 = dktX2_readText_2 := dk_seg dksX2_readText_1 24 rfl rfl
theorem dX2_readText_0 : decode cX2_readText 0 = .ok (.aload_n 0, 1) := dk_42 (dk_at dksX2_readText_0 0 rfl rfl)
theorem dX2_readText_1 : decode cX2_readText 1 = .ok (.sipush 700, 3) := dk_17 2 188 (dk_at dksX2_readText_0 1 rfl rfl)
theorem dX2_readText_4 : decode cX2_readText 4 = .ok (.aload_n 0, 1) := dk_42 (dk_at dksX2_readText_0 4 rfl rfl)
theorem dX2_readText_5 : decode cX2_readText 5 = .ok (.getfield 7, 3) := dk_180 0 7 (dk_at dksX2_readText_0 5 rfl rfl)
theorem dX2_readText_8 : decode cX2_readText 8 = .ok (.iconst 3, 1) := dk_6 (dk_at dksX2_readText_0 8 rfl rfl)
theorem dX2_readText_9 : decode cX2_readText 9 = .ok (.iaload, 1) := dk_46 (dk_at dksX2_readText_0 9 rfl rfl)
theorem dX2_readText_10 : decode cX2_readText 10 = .ok (.imul, 1) := dk_104 (dk_at dksX2_readText_0 10 rfl rfl)
theorem dX2_readText_11 : decode cX2_readText 11 = .ok (.putfield 154, 3) := dk_181 0 154 (dk_at dksX2_readText_0 11 rfl rfl)
theorem dX2_readText_14 : decode cX2_readText 14 = .ok (.aload_n 0, 1) := dk_42 (dk_at dksX2_readText_0 14 rfl rfl)
theorem dX2_readText_15 : decode cX2_readText 15 = .ok (.getfield 16, 3) := dk_180 0 16 (dk_at dksX2_readText_0 15 rfl rfl)
theorem dX2_readText_18 : decode cX2_readText 18 = .ok (.aload_n 0, 1) := dk_42 (dk_at dksX2_readText_0 18 rfl rfl)
theorem dX2_readText_19 : decode cX2_readText 19 = .ok (.getfield 154, 3) := dk_180 0 154 (dk_at dksX2_readText_0 19 rfl rfl)
theorem dX2_readText_22 : decode cX2_readText 22 = .ok (.iconst 0, 1) := dk_3 (dk_at dksX2_readText_0 22 rfl rfl)
theorem dX2_readText_23 : decode cX2_readText 23 = .ok (.iastore, 1) := dk_79 (dk_at dksX2_readText_0 23 rfl rfl)
theorem dX2_readText_24 : decode cX2_readText 24 = .ok (.aload_n 0, 1) := dk_42 (dk_at dksX2_readText_1 0 rfl rfl)
theorem dX2_readText_25 : decode cX2_readText 25 = .ok (.iconst 0, 1) := dk_3 (dk_at dksX2_readText_1 1 rfl rfl)
theorem dX2_readText_26 : decode cX2_readText 26 = .ok (.putfield 157, 3) := dk_181 0 157 (dk_at dksX2_readText_1 2 rfl rfl)
theorem dX2_readText_29 : decode cX2_readText 29 = .ok (.aload_n 0, 1) := dk_42 (dk_at dksX2_readText_1 5 rfl rfl)
theorem dX2_readText_30 : decode cX2_readText 30 = .ok (.iconst 0, 1) := dk_3 (dk_at dksX2_readText_1 6 rfl rfl)
theorem dX2_readText_31 : decode cX2_readText 31 = .ok (.putfield 167, 3) := dk_181 0 167 (dk_at dksX2_readText_1 7 rfl rfl)
theorem dX2_readText_34 : decode cX2_readText 34 = .ok (.aload_n 0, 1) := dk_42 (dk_at dksX2_readText_1 10 rfl rfl)
theorem dX2_readText_35 : decode cX2_readText 35 = .ok (.iconst 0, 1) := dk_3 (dk_at dksX2_readText_1 11 rfl rfl)
theorem dX2_readText_36 : decode cX2_readText 36 = .ok (.putfield 253, 3) := dk_181 0 253 (dk_at dksX2_readText_1 12 rfl rfl)
theorem dX2_readText_39 : decode cX2_readText 39 = .ok (.aload_n 0, 1) := dk_42 (dk_at dksX2_readText_1 15 rfl rfl)
theorem dX2_readText_40 : decode cX2_readText 40 = .ok (.iconst 0, 1) := dk_3 (dk_at dksX2_readText_1 16 rfl rfl)
theorem dX2_readText_41 : decode cX2_readText 41 = .ok (.putfield 120, 3) := dk_181 0 120 (dk_at dksX2_readText_1 17 rfl rfl)
theorem dX2_readText_44 : decode cX2_readText 44 = .ok (.aload_n 0, 1) := dk_42 (dk_at dksX2_readText_1 20 rfl rfl)
theorem dX2_readText_45 : decode cX2_readText 45 = .ok (.invokevirtual 184, 3) := dk_182 0 184 (dk_at dksX2_readText_1 21 rfl rfl)
theorem dX2_readText_48 : decode cX2_readText 48 = .ok (.aload_n 0, 1) := dk_42 (dk_at dksX2_readText_2 0 rfl rfl)
theorem dX2_readText_49 : decode cX2_readText 49 = .ok (.getfield 129, 3) := dk_180 0 129 (dk_at dksX2_readText_2 1 rfl rfl)
theorem dX2_readText_52 : decode cX2_readText 52 = .ok (.ifCond .eq 17, 3) := dk_153 0 17 (dk_at dksX2_readText_2 4 rfl rfl)
theorem dX2_readText_55 : decode cX2_readText 55 = .ok (.aload_n 0, 1) := dk_42 (dk_at dksX2_readText_2 7 rfl rfl)
theorem dX2_readText_56 : decode cX2_readText 56 = .ok (.invokevirtual 262, 3) := dk_182 1 6 (dk_at dksX2_readText_2 8 rfl rfl)
theorem dX2_readText_59 : decode cX2_readText 59 = .ok (.istore_n 1, 1) := dk_60 (dk_at dksX2_readText_2 11 rfl rfl)
theorem dX2_readText_60 : decode cX2_readText 60 = .ok (.iload_n 1, 1) := dk_27 (dk_at dksX2_readText_2 12 rfl rfl)
theorem dX2_readText_61 : decode cX2_readText 61 = .ok (.ifCond .eq 5, 3) := dk_153 0 5 (dk_at dksX2_readText_2 13 rfl rfl)
theorem dX2_readText_64 : decode cX2_readText 64 = .ok (.iload_n 1, 1) := dk_27 (dk_at dksX2_readText_2 16 rfl rfl)
theorem dX2_readText_65 : decode cX2_readText 65 = .ok (.ireturn, 1) := dk_172 (dk_at dksX2_readText_2 17 rfl rfl)
theorem dX2_readText_66 : decode cX2_readText 66 = .ok (.goto (-18), 3) := dk_167 255 238 (dk_at dksX2_readText_2 18 rfl rfl)
theorem dX2_readText_69 : decode cX2_readText 69 = .ok (.iconst 0, 1) := dk_3 (dk_at dksX2_readText_2 21 rfl rfl)
theorem dX2_readText_70 : decode cX2_readText 70 = .ok (.ireturn, 1) := dk_172 (dk_at dksX2_readText_2 22 rfl rfl)
def dkwX2_nextToken_16 : List UInt8 := [16, 60, 160, 0, 7, 7, 167, 0, 4, 8, 181, 0, 129, 177]
abbrev dktX2_nextToken_16 : List UInt8 := dkwX2_nextToken_16 ++ []
def dkwX2_nextToken_15 : List UInt8 := [42, 180, 0, 120, 182, 0, 123, 16, 61, 160, 0, 28, 42, 89, 180, 0, 120, 4, 96, 181, 0, 120, 42, 27]
abbrev dktX2_nextToken_15 : List UInt8 := dkwX2_nextToken_15 ++ dktX2_nextToken_16
def dkwX2_nextToken_14 : List UInt8 := [153, 0, 7, 27, 167, 0, 4, 6, 181, 0, 129, 27, 16, 60, 159, 0, 9, 27, 16, 62, 160, 0, 41, 42]
abbrev dktX2_nextToken_14 : List UInt8 := dkwX2_nextToken_14 ++ dktX2_nextToken_15
def dkwX2_nextToken_13 : List UInt8 := [159, 0, 15, 27, 16, 41, 159, 0, 9, 27, 16, 59, 160, 0, 7, 4, 167, 0, 4, 3, 61, 42, 28]
abbrev dktX2_nextToken_13 : List UInt8 := dkwX2_nextToken_13 ++ dktX2_nextToken_14
def dkwX2_nextToken_12 : List UInt8 := [159, 0, 39, 27, 16, 45, 159, 0, 33, 27, 16, 42, 159, 0, 27, 27, 16, 47, 159, 0, 21, 27, 16, 40]
abbrev dktX2_nextToken_12 : List UInt8 := dkwX2_nextToken_12 ++ dktX2_nextToken_13
def dkwX2_nextToken_11 : List UInt8 := [159, 0, 63, 27, 16, 62, 159, 0, 57, 27, 16, 61, 159, 0, 51, 27, 16, 35, 159, 0, 45, 27, 16, 43]
abbrev dktX2_nextToken_11 : List UInt8 := dkwX2_nextToken_11 ++ dktX2_nextToken_12
def dkwX2_nextToken_10 : List UInt8 := [164, 0, 156, 42, 9, 181, 0, 142, 167, 0, 148, 42, 89, 180, 0, 120, 4, 96, 181, 0, 120, 27, 16, 60]
abbrev dktX2_nextToken_10 : List UInt8 := dkwX2_nextToken_10 ++ dktX2_nextToken_11
def dkwX2_nextToken_9 : List UInt8 := [42, 89, 180, 0, 120, 4, 96, 181, 0, 120, 167, 255, 197, 42, 180, 0, 120, 42, 180, 0, 126, 100, 16, 7]
abbrev dktX2_nextToken_9 : List UInt8 := dkwX2_nextToken_9 ++ dktX2_nextToken_10
def dkwX2_nextToken_8 : List UInt8 := [162, 0, 24, 42, 42, 180, 0, 142, 16, 8, 121, 42, 42, 180, 0, 120, 182, 0, 123, 133, 129, 181, 0, 142]
abbrev dktX2_nextToken_8 : List UInt8 := dkwX2_nextToken_8 ++ dktX2_nextToken_9
def dkwX2_nextToken_7 : List UInt8 := [180, 0, 120, 182, 0, 123, 184, 0, 139, 153, 0, 51, 42, 180, 0, 120, 42, 180, 0, 126, 100, 16, 7]
abbrev dktX2_nextToken_7 : List UInt8 := dkwX2_nextToken_7 ++ dktX2_nextToken_8
def dkwX2_nextToken_6 : List UInt8 := [167, 255, 200, 27, 184, 0, 139, 153, 0, 97, 42, 5, 181, 0, 129, 42, 9, 181, 0, 142, 42, 42]
abbrev dktX2_nextToken_6 : List UInt8 := dkwX2_nextToken_6 ++ dktX2_nextToken_7
def dkwX2_nextToken_5 : List UInt8 := [42, 180, 0, 120, 182, 0, 123, 96, 16, 48, 100, 181, 0, 135, 42, 89, 180, 0, 120, 4, 96, 181, 0, 120]
abbrev dktX2_nextToken_5 : List UInt8 := dkwX2_nextToken_5 ++ dktX2_nextToken_6
def dkwX2_nextToken_4 : List UInt8 := [184, 0, 132, 153, 1, 38, 42, 180, 0, 135, 18, 138, 162, 0, 26, 42, 16, 10, 42, 180, 0, 135, 104, 42]
abbrev dktX2_nextToken_4 : List UInt8 := dkwX2_nextToken_4 ++ dktX2_nextToken_5
def dkwX2_nextToken_3 : List UInt8 := [184, 0, 132, 153, 0, 72, 42, 4, 181, 0, 129, 42, 3, 181, 0, 135, 42, 42, 180, 0, 120, 182, 0, 123]
abbrev dktX2_nextToken_3 : List UInt8 := dkwX2_nextToken_3 ++ dktX2_nextToken_4
def dkwX2_nextToken_2 : List UInt8 := [42, 42, 180, 0, 120, 182, 0, 123, 60, 27, 156, 0, 11, 42, 3, 181, 0, 129, 167, 1, 69, 27]
abbrev dktX2_nextToken_2 : List UInt8 := dkwX2_nextToken_2 ++ dktX2_nextToken_3
def dkwX2_nextToken_1 : List UInt8 := [160, 0, 16, 42, 89, 180, 0, 120, 4, 96, 181, 0, 120, 167, 255, 220, 42, 42, 180, 0, 120, 181, 0, 126]
abbrev dktX2_nextToken_1 : List UInt8 := dkwX2_nextToken_1 ++ dktX2_nextToken_2
def dkwX2_nextToken_0 : List UInt8 := [42, 42, 180, 0, 120, 182, 0, 123, 16, 32, 159, 0, 16, 42, 42, 180, 0, 120, 182, 0, 123, 16, 10]
abbrev dktX2_nextToken_0 : List UInt8 := dkwX2_nextToken_0 ++ dktX2_nextToken_1
theorem dksX2_nextToken_0 : cX2_nextToken.data.toList.drop 0 = dktX2_nextToken_0 := by decide +kernel
theorem dksX2_nextToken_1 : cX2_nextToken.data.toList.drop 23 = dktX2_nextToken_1 := dk_seg dksX2_nextToken_0 23 rfl rfl
theorem dksX2_nextToken_2 : cX2_nextToken.data.toList.drop 47 = dktX2_nextToken_2 := dk_seg dksX2_nextToken_1 24 rfl rfl
theorem dksX2_nextToken_3 : cX2_nextToken.data.toList.drop 69 = dktX2_nextToken_3 := dk_seg dksX2_nextToken_2 22 rfl rfl
theorem dksX2_nextToken_4 : cX2_nextToken.data.toList.drop 93 = dktX2_nextToken_4 := dk_seg dksX2_nextToken_3 24 rfl rfl
theorem dksX2_nextToken_5 : cX2_nextToken.data.toList.drop 117 = dktX2_nextToken_5 := dk_seg dksX2_nextToken_4 24 rfl rfl
theorem dksX2_nextToken_6 : cX2_nextToken.data.toList.drop 141 = dktX2_nextToken_6 := dk_seg dksX2_nextToken_5 24 rfl rfl
theorem dksX2_nextToken_7 : cX2_nextToken.data.toList.drop 163 = dktX2_nextToken_7 := dk_seg dksX2_nextToken_6 22 rfl rfl
theorem dksX2_nextToken_8 : cX2_nextToken.data.toList.drop 186 = dktX2_nextToken_8 := dk_seg dksX2_nextToken_7 23 rfl rfl
theorem dksX2_nextToken_9 : cX2_nextToken.data.toList.drop 210 = dktX2_nextToken_9 := dk_seg dksX2_nextToken_8 24 rfl rfl
theorem dksX2_nextToken_10 : cX2_nextToken.data.toList.drop 234 = dktX2_nextToken_10 := dk_seg dksX2_nextToken_9 24 rfl rfl
theorem dksX2_nextToken_11 : cX2_nextToken.data.toList.drop 258 = dktX2_nextToken_11 := dk_seg dksX2_nextToken_10 24 rfl rfl
theorem dksX2_nextToken_12 : cX2_nextToken.data.toList.drop 282 = dktX2_nextToken_12 := dk_seg dksX2_nextToken_11 24 rfl rfl
theorem dksX2_nextToken_13 : cX2_nextToken.data.toList.drop 306 = dktX2_nextToken_13 := dk_seg dksX2_nextToken_12 24 rfl rfl
theorem dksX2_nextToken_14 : cX2_nextToken.data.toList.drop 329 = dktX2_nextToken_14 := dk_seg dksX2_nextToken_13 23 rfl rfl
theorem dksX2_nextToken_15 : cX2_nextToken.data.toList.drop 353 = dktX2_nextToken_15 := dk_seg dksX2_nextToken_14 24 rfl rfl
theorem dksX2_nextToken_16 : cX2_nextToken.data.toList.drop 377 = dktX2_nextToken_16 := dk_seg dksX2_nextToken_15 24 rfl rfl
theorem dX2_nextToken_0 : decode cX2_nextToken 0 = .ok (.aload_n 0, 1) := dk_42 (dk_at dksX2_nextToken_0 0 rfl rfl)
theorem dX2_nextToken_1 : decode cX2_nextToken 1 = .ok (.aload_n 0, 1) := dk_42 (dk_at dksX2_nextToken_0 1 rfl rfl)
theorem dX2_nextToken_2 : decode cX2_nextToken 2 = .ok (.getfield 120, 3) := dk_180 0 120 (dk_at dksX2_nextToken_0 2 rfl rfl)
theorem dX2_nextToken_5 : decode cX2_nextToken 5 = .ok (.invokevirtual 123, 3) := dk_182 0 123 (dk_at dksX2_nextToken_0 5 rfl rfl)
theorem dX2_nextToken_8 : decode cX2_nextToken 8 = .ok (.bipush 32, 2) := dk_16 32 (dk_at dksX2_nextToken_0 8 rfl rfl)
theorem dX2_nextToken_10 : decode cX2_nextToken 10 = .ok (.if_icmp .eq 16, 3) := dk_159 0 16 (dk_at dksX2_nextToken_0 10 rfl rfl)
theorem dX2_nextToken_13 : decode cX2_nextToken 13 = .ok (.aload_n 0, 1) := dk_42 (dk_at dksX2_nextToken_0 13 rfl rfl)
theorem dX2_nextToken_14 : decode cX2_nextToken 14 = .ok (.aload_n 0, 1) := dk_42 (dk_at dksX2_nextToken_0 14 rfl rfl)
theorem dX2_nextToken_15 : decode cX2_nextToken 15 = .ok (.getfield 120, 3) := dk_180 0 120 (dk_at dksX2_nextToken_0 15 rfl rfl)
theorem dX2_nextToken_18 : decode cX2_nextToken 18 = .ok (.invokevirtual 123, 3) := dk_182 0 123 (dk_at dksX2_nextToken_0 18 rfl rfl)
theorem dX2_nextToken_21 : decode cX2_nextToken 21 = .ok (.bipush 10, 2) := dk_16 10 (dk_at dksX2_nextToken_0 21 rfl rfl)
theorem dX2_nextToken_23 : decode cX2_nextToken 23 = .ok (.if_icmp .ne 16, 3) := dk_160 0 16 (dk_at dksX2_nextToken_1 0 rfl rfl)
theorem dX2_nextToken_26 : decode cX2_nextToken 26 = .ok (.aload_n 0, 1) := dk_42 (dk_at dksX2_nextToken_1 3 rfl rfl)
theorem dX2_nextToken_27 : decode cX2_nextToken 27 = .ok (.dup, 1) := dk_89 (dk_at dksX2_nextToken_1 4 rfl rfl)
theorem dX2_nextToken_28 : decode cX2_nextToken 28 = .ok (.getfield 120, 3) := dk_180 0 120 (dk_at dksX2_nextToken_1 5 rfl rfl)
theorem dX2_nextToken_31 : decode cX2_nextToken 31 = .ok (.iconst 1, 1) := dk_4 (dk_at dksX2_nextToken_1 8 rfl rfl)
theorem dX2_nextToken_32 : decode cX2_nextToken 32 = .ok (.iadd, 1) := dk_96 (dk_at dksX2_nextToken_1 9 rfl rfl)
theorem dX2_nextToken_33 : decode cX2_nextToken 33 = .ok (.putfield 120, 3) := dk_181 0 120 (dk_at dksX2_nextToken_1 10 rfl rfl)
theorem dX2_nextToken_36 : decode cX2_nextToken 36 = .ok (.goto (-36), 3) := dk_167 255 220 (dk_at dksX2_nextToken_1 13 rfl rfl)
theorem dX2_nextToken_39 : decode cX2_nextToken 39 = .ok (.aload_n 0, 1) := dk_42 (dk_at dksX2_nextToken_1 16 rfl rfl)
theorem dX2_nextToken_40 : decode cX2_nextToken 40 = .ok (.aload_n 0, 1) := dk_42 (dk_at dksX2_nextToken_1 17 rfl rfl)
theorem dX2_nextToken_41 : decode cX2_nextToken 41 = .ok (.getfield 120, 3) := dk_180 0 120 (dk_at dksX2_nextToken_1 18 rfl rfl)
theorem dX2_nextToken_44 : decode cX2_nextToken 44 = .ok (.putfield 126, 3) := dk_181 0 126 (dk_at dksX2_nextToken_1 21 rfl rfl)
theorem dX2_nextToken_47 : decode cX2_nextToken 47 = .ok (.aload_n 0, 1) := dk_42 (dk_at dksX2_nextToken_2 0 rfl rfl)
theorem dX2_nextToken_48 : decode cX2_nextToken 48 = .ok (.aload_n 0, 1) := dk_42 (dk_at dksX2_nextToken_2 1 rfl rfl)
theorem dX2_nextToken_49 : decode cX2_nextToken 49 = .ok (.getfield 120, 3) := dk_180 0 120 (dk_at dksX2_nextToken_2 2 rfl rfl)
theorem dX2_nextToken_52 : decode cX2_nextToken 52 = .ok (.invokevirtual 123, 3) := dk_182 0 123 (dk_at dksX2_nextToken_2 5 rfl rfl)
theorem dX2_nextToken_55 : decode cX2_nextToken 55 = .ok (.istore_n 1, 1) := dk_60 (dk_at dksX2_nextToken_2 8 rfl rfl)
theorem dX2_nextToken_56 : decode cX2_nextToken 56 = .ok (.iload_n 1, 1) := dk_27 (dk_at dksX2_nextToken_2 9 rfl rfl)
theorem dX2_nextToken_57 : decode cX2_nextToken 57 = .ok (.ifCond .ge 11, 3) := dk_156 0 11 (dk_at dksX2_nextToken_2 10 rfl rfl)
theorem dX2_nextToken_60 : decode cX2_nextToken 60 = .ok (.aload_n 0, 1) := dk_42 (dk_at dksX2_nextToken_2 13 rfl rfl)
theorem dX2_nextToken_61 : decode cX2_nextToken 61 = .ok (.iconst 0, 1) := dk_3 (dk_at dksX2_nextToken_2 14 rfl rfl)
theorem dX2_nextToken_62 : decode cX2_nextToken 62 = .ok (.putfield 129, 3) := dk_181 0 129 (dk_at dksX2_nextToken_2 15 rfl rfl)
theorem dX2_nextToken_65 : decode cX2_nextToken 65 = .ok (.goto 325, 3) := dk_167 1 69 (dk_at dksX2_nextToken_2 18 rfl rfl)
theorem dX2_nextToken_68 : decode cX2_nextToken 68 = .ok (.iload_n 1, 1) := dk_27 (dk_at dksX2_nextToken_2 21 rfl rfl)
theorem dX2_nextToken_69 : decode cX2_nextToken 69 = .ok (.invokestatic 132, 3) := dk_184 0 132 (dk_at dksX2_nextToken_3 0 rfl rfl)
theorem dX2_nextToken_72 : decode cX2_nextToken 72 = .ok (.ifCond .eq 72, 3) := dk_153 0 72 (dk_at dksX2_nextToken_3 3 rfl rfl)
theorem dX2_nextToken_75 : decode cX2_nextToken 75 = .ok (.aload_n 0, 1) := dk_42 (dk_at dksX2_nextToken_3 6 rfl rfl)
theorem dX2_nextToken_76 : decode cX2_nextToken 76 = .ok (.iconst 1, 1) := dk_4 (dk_at dksX2_nextToken_3 7 rfl rfl)
theorem dX2_nextToken_77 : decode cX2_nextToken 77 = .ok (.putfield 129, 3) := dk_181 0 129 (dk_at dksX2_nextToken_3 8 rfl rfl)
theorem dX2_nextToken_80 : decode cX2_nextToken 80 = .ok (.aload_n 0, 1) := dk_42 (dk_at dksX2_nextToken_3 11 rfl rfl)
theorem dX2_nextToken_81 : decode cX2_nextToken 81 = .ok (.iconst 0, 1) := dk_3 (dk_at dksX2_nextToken_3 12 rfl rfl)
theorem dX2_nextToken_82 : decode cX2_nextToken 82 = .ok (.putfield 135, 3) := dk_181 0 135 (dk_at dksX2_nextToken_3 13 rfl rfl)
theorem dX2_nextToken_85 : decode cX2_nextToken 85 = .ok (.aload_n 0, 1) := dk_42 (dk_at dksX2_nextToken_3 16 rfl rfl)
theorem dX2_nextToken_86 : decode cX2_nextToken 86 = .ok (.aload_n 0, 1) := dk_42 (dk_at dksX2_nextToken_3 17 rfl rfl)
theorem dX2_nextToken_87 : decode cX2_nextToken 87 = .ok (.getfield 120, 3) := dk_180 0 120 (dk_at dksX2_nextToken_3 18 rfl rfl)
theorem dX2_nextToken_90 : decode cX2_nextToken 90 = .ok (.invokevirtual 123, 3) := dk_182 0 123 (dk_at dksX2_nextToken_3 21 rfl rfl)
theorem dX2_nextToken_93 : decode cX2_nextToken 93 = .ok (.invokestatic 132, 3) := dk_184 0 132 (dk_at dksX2_nextToken_4 0 rfl rfl)
theorem dX2_nextToken_96 : decode cX2_nextToken 96 = .ok (.ifCond .eq 294, 3) := dk_153 1 38 (dk_at dksX2_nextToken_4 3 rfl rfl)
theorem dX2_nextToken_99 : decode cX2_nextToken 99 = .ok (.aload_n 0, 1) := dk_42 (dk_at dksX2_nextToken_4 6 rfl rfl)
theorem dX2_nextToken_100 : decode cX2_nextToken 100 = .ok (.getfield 135, 3) := dk_180 0 135 (dk_at dksX2_nextToken_4 7 rfl rfl)
theorem dX2_nextToken_103 : decode cX2_nextToken 103 = .ok (.ldc 138, 2) := dk_18 138 (dk_at dksX2_nextToken_4 10 rfl rfl)
theorem dX2_nextToken_105 : decode cX2_nextToken 105 = .ok (.if_icmp .ge 26, 3) := dk_162 0 26 (dk_at dksX2_nextToken_4 12 rfl rfl)
theorem dX2_nextToken_108 : decode cX2_nextToken 108 = .ok (.aload_n 0, 1) := dk_42 (dk_at dksX2_nextToken_4 15 rfl rfl)
theorem dX2_nextToken_109 : decode cX2_nextToken 109 = .ok (.bipush 10, 2) := dk_16 10 (dk_at dksX2_nextToken_4 16 rfl rfl)
theorem dX2_nextToken_111 : decode cX2_nextToken 111 = .ok (.aload_n 0, 1) := dk_42 (dk_at dksX2_nextToken_4 18 rfl rfl)
theorem dX2_nextToken_112 : decode cX2_nextToken 112 = .ok (.getfield 135, 3) := dk_180 0 135 (dk_at dksX2_nextToken_4 19 rfl rfl)
theorem dX2_nextToken_115 : decode cX2_nextToken 115 = .ok (.imul, 1) := dk_104 (dk_at dksX2_nextToken_4 22 rfl rfl)
theorem dX2_nextToken_116 : decode cX2_nextToken 116 = .ok (.aload_n 0, 1) := dk_42 (dk_at dksX2_nextToken_4 23 rfl rfl)
theorem dX2_nextToken_117 : decode cX2_nextToken 117 = .ok (.aload_n 0, 1) := dk_42 (dk_at dksX2_nextToken_5 0 rfl rfl)
theorem dX2_nextToken_118 : decode cX2_nextToken 118 = .ok (.getfield 120, 3) := dk_180 0 120 (dk_at dksX2_nextToken_5 1 rfl rfl)
theorem dX2_nextToken_121 : decode cX2_nextToken 121 = .ok (.invokevirtual 123, 3) := dk_182 0 123 (dk_at dksX2_nextToken_5 4 rfl rfl)
theorem dX2_nextToken_124 : decode cX2_nextToken 124 = .ok (.iadd, 1) := dk_96 (dk_at dksX2_nextToken_5 7 rfl rfl)
theorem dX2_nextToken_125 : decode cX2_nextToken 125 = .ok (.bipush 48, 2) := dk_16 48 (dk_at dksX2_nextToken_5 8 rfl rfl)
theorem dX2_nextToken_127 : decode cX2_nextToken 127 = .ok (.isub, 1) := dk_100 (dk_at dksX2_nextToken_5 10 rfl rfl)
theorem dX2_nextToken_128 : decode cX2_nextToken 128 = .ok (.putfield 135, 3) := dk_181 0 135 (dk_at dksX2_nextToken_5 11 rfl rfl)
theorem dX2_nextToken_131 : decode cX2_nextToken 131 = .ok (.aload_n 0, 1) := dk_42 (dk_at dksX2_nextToken_5 14 rfl rfl)
theorem dX2_nextToken_132 : decode cX2_nextToken 132 = .ok (.dup, 1) := dk_89 (dk_at dksX2_nextToken_5 15 rfl rfl)
theorem dX2_nextToken_133 : decode cX2_nextToken 133 = .ok (.getfield 120, 3) := dk_180 0 120 (dk_at dksX2_nextToken_5 16 rfl rfl)
theorem dX2_nextToken_136 : decode cX2_nextToken 136 = .ok (.iconst 1, 1) := dk_4 (dk_at dksX2_nextToken_5 19 rfl rfl)
theorem dX2_nextToken_137 : decode cX2_nextToken 137 = .ok (.iadd, 1) := dk_96 (dk_at dksX2_nextToken_5 20 rfl rfl)
theorem dX2_nextToken_138 : decode cX2_nextToken 138 = .ok (.putfield 120, 3) := dk_181 0 120 (dk_at dksX2_nextToken_5 21 rfl rfl)
theorem dX2_nextToken_141 : decode cX2_nextToken 141 = .ok (.goto (-56), 3) := dk_167 255 200 (dk_at dksX2_nextToken_6 0 rfl rfl)
theorem dX2_nextToken_144 : decode cX2_nextToken 144 = .ok (.iload_n 1, 1) := dk_27 (dk_at dksX2_nextToken_6 3 rfl rfl)
theorem dX2_nextToken_145 : decode cX2_nextToken 145 = .ok (.invokestatic 139, 3) := dk_184 0 139 (dk_at dksX2_nextToken_6 4 rfl rfl)
theorem dX2_nextToken_148 : decode cX2_nextToken 148 = .ok (.ifCond .eq 97, 3) := dk_153 0 97 (dk_at dksX2_nextToken_6 7 rfl rfl)
theorem dX2_nextToken_151 : decode cX2_nextToken 151 = .ok (.aload_n 0, 1) := dk_42 (dk_at dksX2_nextToken_6 10 rfl rfl)
theorem dX2_nextToken_152 : decode cX2_nextToken 152 = .ok (.iconst 2, 1) := dk_5 (dk_at dksX2_nextToken_6 11 rfl rfl)
theorem dX2_nextToken_153 : decode cX2_nextToken 153 = .ok (.putfield 129, 3) := dk_181 0 129 (dk_at dksX2_nextToken_6 12 rfl rfl)
theorem dX2_nextToken_156 : decode cX2_nextToken 156 = .ok (.aload_n 0, 1) := dk_42 (dk_at dksX2_nextToken_6 15 rfl rfl)
theorem dX2_nextToken_157 : decode cX2_nextToken 157 = .ok (.lconst 0, 1) := dk_9 (dk_at dksX2_nextToken_6 16 rfl rfl)
theorem dX2_nextToken_158 : decode cX2_nextToken 158 = .ok (.putfield 142, 3) := dk_181 0 142 (dk_at dksX2_nextToken_6 17 rfl rfl)
theorem dX2_nextToken_161 : decode cX2_nextToken 161 = .ok (.aload_n 0, 1) := dk_42 (dk_at dksX2_nextToken_6 20 rfl rfl)
theorem dX2_nextToken_162 : decode cX2_nextToken 162 = .ok (.aload_n 0, 1) := dk_42 (dk_at dksX2_nextToken_6 21 rfl rfl)
theorem dX2_nextToken_163 : decode cX2_nextToken 163 = .ok (.getfield 120, 3) := dk_180 0 120 (dk_at dksX2_nextToken_7 0 rfl rfl)
theorem dX2_nextToken_166 : decode cX2_nextToken 166 = .ok (.invokevirtual 123, 3) := dk_182 0 123 (dk_at dksX2_nextToken_7 3 rfl rfl)
theorem dX2_nextToken_169 : decode cX2_nextToken 169 = .ok (.invokestatic 139, 3) := dk_184 0 139 (dk_at dksX2_nextToken_7 6 rfl rfl)
theorem dX2_nextToken_172 : decode cX2_nextToken 172 = .ok (.ifCond .eq 51, 3) := dk_153 0 51 (dk_at dksX2_nextToken_7 9 rfl rfl)
theorem dX2_nextToken_175 : decode cX2_nextToken 175 = .ok (.aload_n 0, 1) := dk_42 (dk_at dksX2_nextToken_7 12 rfl rfl)
theorem dX2_nextToken_176 : decode cX2_nextToken 176 = .ok (.getfield 120, 3) := dk_180 0 120 (dk_at dksX2_nextToken_7 13 rfl rfl)
theorem dX2_nextToken_179 : decode cX2_nextToken 179 = .ok (.aload_n 0, 1) := dk_42 (dk_at dksX2_nextToken_7 16 rfl rfl)
theorem dX2_nextToken_180 : decode cX2_nextToken 180 = .ok (.getfield 126, 3) := dk_180 0 126 (dk_at dksX2_nextToken_7 17 rfl rfl)
theorem dX2_nextToken_183 : decode cX2_nextToken 183 = .ok (.isub, 1) := dk_100 (dk_at dksX2_nextToken_7 20 rfl rfl)
theorem dX2_nextToken_184 : decode cX2_nextToken 184 = .ok (.bipush 7, 2) := dk_16 7 (dk_at dksX2_nextToken_7 21 rfl rfl)
theorem dX2_nextToken_186 : decode cX2_nextToken 186 = .ok (.if_icmp .ge 24, 3) := dk_162 0 24 (dk_at dksX2_nextToken_8 0 rfl rfl)
theorem dX2_nextToken_189 : decode cX2_nextToken 189 = .ok (.aload_n 0, 1) := dk_42 (dk_at dksX2_nextToken_8 3 rfl rfl)
theorem dX2_nextToken_190 : decode cX2_nextToken 190 = .ok (.aload_n 0, 1) := dk_42 (dk_at dksX2_nextToken_8 4 rfl rfl)
theorem dX2_nextToken_191 : decode cX2_nextToken 191 = .ok (.getfield 142, 3) := dk_180 0 142 (dk_at dksX2_nextToken_8 5 rfl rfl)
theorem dX2_nextToken_194 : decode cX2_nextToken 194 = .ok (.bipush 8, 2) := dk_16 8 (dk_at dksX2_nextToken_8 8 rfl rfl)
theorem dX2_nextToken_196 : decode cX2_nextToken 196 = .ok (.lshl, 1) := dk_121 (dk_at dksX2_nextToken_8 10 rfl rfl)
theorem dX2_nextToken_197 : decode cX2_nextToken 197 = .ok (.aload_n 0, 1) := dk_42 (dk_at dksX2_nextToken_8 11 rfl rfl)
theorem dX2_nextToken_198 : decode cX2_nextToken 198 = .ok (.aload_n 0, 1) := dk_42 (dk_at dksX2_nextToken_8 12 rfl rfl)
theorem dX2_nextToken_199 : decode cX2_nextToken 199 = .ok (.getfield 120, 3) := dk_180 0 120 (dk_at dksX2_nextToken_8 13 rfl rfl)
theorem dX2_nextToken_202 : decode cX2_nextToken 202 = .ok (.invokevirtual 123, 3) := dk_182 0 123 (dk_at dksX2_nextToken_8 16 rfl rfl)
theorem dX2_nextToken_205 : decode cX2_nextToken 205 = .ok (.i2l, 1) := dk_133 (dk_at dksX2_nextToken_8 19 rfl rfl)
theorem dX2_nextToken_206 : decode cX2_nextToken 206 = .ok (.lor, 1) := dk_129 (dk_at dksX2_nextToken_8 20 rfl rfl)
theorem dX2_nextToken_207 : decode cX2_nextToken 207 = .ok (.putfield 142, 3) := dk_181 0 142 (dk_at dksX2_nextToken_8 21 rfl rfl)
theorem dX2_nextToken_210 : decode cX2_nextToken 210 = .ok (.aload_n 0, 1) := dk_42 (dk_at dksX2_nextToken_9 0 rfl rfl)
theorem dX2_nextToken_211 : decode cX2_nextToken 211 = .ok (.dup, 1) := dk_89 (dk_at dksX2_nextToken_9 1 rfl rfl)
theorem dX2_nextToken_212 : decode cX2_nextToken 212 = .ok (.getfield 120, 3) := dk_180 0 120 (dk_at dksX2_nextToken_9 2 rfl rfl)
theorem dX2_nextToken_215 : decode cX2_nextToken 215 = .ok (.iconst 1, 1) := dk_4 (dk_at dksX2_nextToken_9 5 rfl rfl)
theorem dX2_nextToken_216 : decode cX2_nextToken 216 = .ok (.iadd, 1) := dk_96 (dk_at dksX2_nextToken_9 6 rfl rfl)
theorem dX2_nextToken_217 : decode cX2_nextToken 217 = .ok (.putfield 120, 3) := dk_181 0 120 (dk_at dksX2_nextToken_9 7 rfl rfl)
theorem dX2_nextToken_220 : decode cX2_nextToken 220 = .ok (.goto (-59), 3) := dk_167 255 197 (dk_at dksX2_nextToken_9 10 rfl rfl)
theorem dX2_nextToken_223 : decode cX2_nextToken 223 = .ok (.aload_n 0, 1) := dk_42 (dk_at dksX2_nextToken_9 13 rfl rfl)
theorem dX2_nextToken_224 : decode cX2_nextToken 224 = .ok (.getfield 120, 3) := dk_180 0 120 (dk_at dksX2_nextToken_9 14 rfl rfl)
theorem dX2_nextToken_227 : decode cX2_nextToken 227 = .ok (.aload_n 0, 1) := dk_42 (dk_at dksX2_nextToken_9 17 rfl rfl)
theorem dX2_nextToken_228 : decode cX2_nextToken 228 = .ok (.getfield 126, 3) := dk_180 0 126 (dk_at dksX2_nextToken_9 18 rfl rfl)
theorem dX2_nextToken_231 : decode cX2_nextToken 231 = .ok (.isub, 1) := dk_100 (dk_at dksX2_nextToken_9 21 rfl rfl)
theorem dX2_nextToken_232 : decode cX2_nextToken 232 = .ok (.bipush 7, 2) := dk_16 7 (dk_at dksX2_nextToken_9 22 rfl rfl)
theorem dX2_nextToken_234 : decode cX2_nextToken 234 = .ok (.if_icmp .le 156, 3) := dk_164 0 156 (dk_at dksX2_nextToken_10 0 rfl rfl)
theorem dX2_nextToken_237 : decode cX2_nextToken 237 = .ok (.aload_n 0, 1) := dk_42 (dk_at dksX2_nextToken_10 3 rfl rfl)
theorem dX2_nextToken_238 : decode cX2_nextToken 238 = .ok (.lconst 0, 1) := dk_9 (dk_at dksX2_nextToken_10 4 rfl rfl)
theorem dX2_nextToken_239 : decode cX2_nextToken 239 = .ok (.putfield 142, 3) := dk_181 0 142 (dk_at dksX2_nextToken_10 5 rfl rfl)
theorem dX2_nextToken_242 : decode cX2_nextToken 242 = .ok (.goto 148, 3) := dk_167 0 148 (dk_at dksX2_nextToken_10 8 rfl rfl)
theorem dX2_nextToken_245 : decode cX2_nextToken 245 = .ok (.aload_n 0, 1) := dk_42 (dk_at dksX2_nextToken_10 11 rfl rfl)
theorem dX2_nextToken_246 : decode cX2_nextToken 246 = .ok (.dup, 1) := dk_89 (dk_at dksX2_nextToken_10 12 rfl rfl)
theorem dX2_nextToken_247 : decode cX2_nextToken 247 = .ok (.getfield 120, 3) := dk_180 0 120 (dk_at dksX2_nextToken_10 13 rfl rfl)
theorem dX2_nextToken_250 : decode cX2_nextToken 250 = .ok (.iconst 1, 1) := dk_4 (dk_at dksX2_nextToken_10 16 rfl rfl)
theorem dX2_nextToken_251 : decode cX2_nextToken 251 = .ok (.iadd, 1) := dk_96 (dk_at dksX2_nextToken_10 17 rfl rfl)
theorem dX2_nextToken_252 : decode cX2_nextToken 252 = .ok (.putfield 120, 3) := dk_181 0 120 (dk_at dksX2_nextToken_10 18 rfl rfl)
theorem dX2_nextToken_255 : decode cX2_nextToken 255 = .ok (.iload_n 1, 1) := dk_27 (dk_at dksX2_nextToken_10 21 rfl rfl)
theorem dX2_nextToken_256 : decode cX2_nextToken 256 = .ok (.bipush 60, 2) := dk_16 60 (dk_at dksX2_nextToken_10 22 rfl rfl)
theorem dX2_nextToken_258 : decode cX2_nextToken 258 = .ok (.if_icmp .eq 63, 3) := dk_159 0 63 (dk_at dksX2_nextToken_11 0 rfl rfl)
theorem dX2_nextToken_261 : decode cX2_nextToken 261 = .ok (.iload_n 1, 1) := dk_27 (dk_at dksX2_nextToken_11 3 rfl rfl)
theorem dX2_nextToken_262 : decode cX2_nextToken 262 = .ok (.bipush 62, 2) := dk_16 62 (dk_at dksX2_nextToken_11 4 rfl rfl)
theorem dX2_nextToken_264 : decode cX2_nextToken 264 = .ok (.if_icmp .eq 57, 3) := dk_159 0 57 (dk_at dksX2_nextToken_11 6 rfl rfl)
theorem dX2_nextToken_267 : decode cX2_nextToken 267 = .ok (.iload_n 1, 1) := dk_27 (dk_at dksX2_nextToken_11 9 rfl rfl)
theorem dX2_nextToken_268 : decode cX2_nextToken 268 = .ok (.bipush 61, 2) := dk_16 61 (dk_at dksX2_nextToken_11 10 rfl rfl)
theorem dX2_nextToken_270 : decode cX2_nextToken 270 = .ok (.if_icmp .eq 51, 3) := dk_159 0 51 (dk_at dksX2_nextToken_11 12 rfl rfl)
theorem dX2_nextToken_273 : decode cX2_nextToken 273 = .ok (.iload_n 1, 1) := dk_27 (dk_at dksX2_nextToken_11 15 rfl rfl)
theorem dX2_nextToken_274 : decode cX2_nextToken 274 = .ok (.bipush 35, 2) := dk_16 35 (dk_at dksX2_nextToken_11 16 rfl rfl)
theorem dX2_nextToken_276 : decode cX2_nextToken 276 = .ok (.if_icmp .eq 45, 3) := dk_159 0 45 (dk_at dksX2_nextToken_11 18 rfl rfl)
theorem dX2_nextToken_279 : decode cX2_nextToken 279 = .ok (.iload_n 1, 1) := dk_27 (dk_at dksX2_nextToken_11 21 rfl rfl)
theorem dX2_nextToken_280 : decode cX2_nextToken 280 = .ok (.bipush 43, 2) := dk_16 43 (dk_at dksX2_nextToken_11 22 rfl rfl)
theorem dX2_nextToken_282 : decode cX2_nextToken 282 = .ok (.if_icmp .eq 39, 3) := dk_159 0 39 (dk_at dksX2_nextToken_12 0 rfl rfl)
theorem dX2_nextToken_285 : decode cX2_nextToken 285 = .ok (.iload_n 1, 1) := dk_27 (dk_at dksX2_nextToken_12 3 rfl rfl)
theorem dX2_nextToken_286 : decode cX2_nextToken 286 = .ok (.bipush 45, 2) := dk_16 45 (dk_at dksX2_nextToken_12 4 rfl rfl)
theorem dX2_nextToken_288 : decode cX2_nextToken 288 = .ok (.if_icmp .eq 33, 3) := dk_159 0 33 (dk_at dksX2_nextToken_12 6 rfl rfl)
theorem dX2_nextToken_291 : decode cX2_nextToken 291 = .ok (.iload_n 1, 1) := dk_27 (dk_at dksX2_nextToken_12 9 rfl rfl)
theorem dX2_nextToken_292 : decode cX2_nextToken 292 = .ok (.bipush 42, 2) := dk_16 42 (dk_at dksX2_nextToken_12 10 rfl rfl)
theorem dX2_nextToken_294 : decode cX2_nextToken 294 = .ok (.if_icmp .eq 27, 3) := dk_159 0 27 (dk_at dksX2_nextToken_12 12 rfl rfl)
theorem dX2_nextToken_297 : decode cX2_nextToken 297 = .ok (.iload_n 1, 1) := dk_27 (dk_at dksX2_nextToken_12 15 rfl rfl)
theorem dX2_nextToken_298 : decode cX2_nextToken 298 = .ok (.bipush 47, 2) := dk_16 47 (dk_at dksX2_nextToken_12 16 rfl rfl)
theorem dX2_nextToken_300 : decode cX2_nextToken 300 = .ok (.if_icmp .eq 21, 3) := dk_159 0 21 (dk_at dksX2_nextToken_12 18 rfl rfl)
theorem dX2_nextToken_303 : decode cX2_nextToken 303 = .ok (.iload_n 1, 1) := dk_27 (dk_at dksX2_nextToken_12 21 rfl rfl)
theorem dX2_nextToken_304 : decode cX2_nextToken 304 = .ok (.bipush 40, 2) := dk_16 40 (dk_at dksX2_nextToken_12 22 rfl rfl)
theorem dX2_nextToken_306 : decode cX2_nextToken 306 = .ok (.if_icmp .eq 15, 3) := dk_159 0 15 (dk_at dksX2_nextToken_13 0 rfl rfl)
theorem dX2_nextToken_309 : decode cX2_nextToken 309 = .ok (.iload_n 1, 1) := dk_27 (dk_at dksX2_nextToken_13 3 rfl rfl)
theorem dX2_nextToken_310 : decode cX2_nextToken 310 = .ok (.bipush 41, 2) := dk_16 41 (dk_at dksX2_nextToken_13 4 rfl rfl)
theorem dX2_nextToken_312 : decode cX2_nextToken 312 = .ok (.if_icmp .eq 9, 3) := dk_159 0 9 (dk_at dksX2_nextToken_13 6 rfl rfl)
theorem dX2_nextToken_315 : decode cX2_nextToken 315 = .ok (.iload_n 1, 1) := dk_27 (dk_at dksX2_nextToken_13 9 rfl rfl)
theorem dX2_nextToken_316 : decode cX2_nextToken 316 = .ok (.bipush 59, 2) := dk_16 59 (dk_at dksX2_nextToken_13 10 rfl rfl)
theorem dX2_nextToken_318 : decode cX2_nextToken 318 = .ok (.if_icmp .ne 7, 3) := dk_160 0 7 (dk_at dksX2_nextToken_13 12 rfl rfl)
theorem dX2_nextToken_321 : decode cX2_nextToken 321 = .ok (.iconst 1, 1) := dk_4 (dk_at dksX2_nextToken_13 15 rfl rfl)
theorem dX2_nextToken_322 : decode cX2_nextToken 322 = .ok (.goto 4, 3) := dk_167 0 4 (dk_at dksX2_nextToken_13 16 rfl rfl)
theorem dX2_nextToken_325 : decode cX2_nextToken 325 = .ok (.iconst 0, 1) := dk_3 (dk_at dksX2_nextToken_13 19 rfl rfl)
theorem dX2_nextToken_326 : decode cX2_nextToken 326 = .ok (.istore_n 2, 1) := dk_61 (dk_at dksX2_nextToken_13 20 rfl rfl)
theorem dX2_nextToken_327 : decode cX2_nextToken 327 = .ok (.aload_n 0, 1) := dk_42 (dk_at dksX2_nextToken_13 21 rfl rfl)
theorem dX2_nextToken_328 : decode cX2_nextToken 328 = .ok (.iload_n 2, 1) := dk_28 (dk_at dksX2_nextToken_13 22 rfl rfl)
theorem dX2_nextToken_329 : decode cX2_nextToken 329 = .ok (.ifCond .eq 7, 3) := dk_153 0 7 (dk_at dksX2_nextToken_14 0 rfl rfl)
theorem dX2_nextToken_332 : decode cX2_nextToken 332 = .ok (.iload_n 1, 1) := dk_27 (dk_at dksX2_nextToken_14 3 rfl rfl)
theorem dX2_nextToken_333 : decode cX2_nextToken 333 = .ok (.goto 4, 3) := dk_167 0 4 (dk_at dksX2_nextToken_14 4 rfl rfl)
theorem dX2_nextToken_336 : decode cX2_nextToken 336 = .ok (.iconst 3, 1) := dk_6 (dk_at dksX2_nextToken_14 7 rfl rfl)
theorem dX2_nextToken_337 : decode cX2_nextToken 337 = .ok (.putfield 129, 3) := dk_181 0 129 (dk_at dksX2_nextToken_14 8 rfl rfl)
theorem dX2_nextToken_340 : decode cX2_nextToken 340 = .ok (.iload_n 1, 1) := dk_27 (dk_at dksX2_nextToken_14 11 rfl rfl)
theorem dX2_nextToken_341 : decode cX2_nextToken 341 = .ok (.bipush 60, 2) := dk_16 60 (dk_at dksX2_nextToken_14 12 rfl rfl)
theorem dX2_nextToken_343 : decode cX2_nextToken 343 = .ok (.if_icmp .eq 9, 3) := dk_159 0 9 (dk_at dksX2_nextToken_14 14 rfl rfl)
theorem dX2_nextToken_346 : decode cX2_nextToken 346 = .ok (.iload_n 1, 1) := dk_27 (dk_at dksX2_nextToken_14 17 rfl rfl)
theorem dX2_nextToken_347 : decode cX2_nextToken 347 = .ok (.bipush 62, 2) := dk_16 62 (dk_at dksX2_nextToken_14 18 rfl rfl)
theorem dX2_nextToken_349 : decode cX2_nextToken 349 = .ok (.if_icmp .ne 41, 3) := dk_160 0 41 (dk_at dksX2_nextToken_14 20 rfl rfl)
theorem dX2_nextToken_352 : decode cX2_nextToken 352 = .ok (.aload_n 0, 1) := dk_42 (dk_at dksX2_nextToken_14 23 rfl rfl)
theorem dX2_nextToken_353 : decode cX2_nextToken 353 = .ok (.aload_n 0, 1) := dk_42 (dk_at dksX2_nextToken_15 0 rfl rfl)
theorem dX2_nextToken_354 : decode cX2_nextToken 354 = .ok (.getfield 120, 3) := dk_180 0 120 (dk_at dksX2_nextToken_15 1 rfl rfl)
theorem dX2_nextToken_357 : decode cX2_nextToken 357 = .ok (.invokevirtual 123, 3) := dk_182 0 123 (dk_at dksX2_nextToken_15 4 rfl rfl)
theorem dX2_nextToken_360 : decode cX2_nextToken 360 = .ok (.bipush 61, 2) := dk_16 61 (dk_at dksX2_nextToken_15 7 rfl rfl)
theorem dX2_nextToken_362 : decode cX2_nextToken 362 = .ok (.if_icmp .ne 28, 3) := dk_160 0 28 (dk_at dksX2_nextToken_15 9 rfl rfl)
theorem dX2_nextToken_365 : decode cX2_nextToken 365 = .ok (.aload_n 0, 1) := dk_42 (dk_at dksX2_nextToken_15 12 rfl rfl)
theorem dX2_nextToken_366 : decode cX2_nextToken 366 = .ok (.dup, 1) := dk_89 (dk_at dksX2_nextToken_15 13 rfl rfl)
theorem dX2_nextToken_367 : decode cX2_nextToken 367 = .ok (.getfield 120, 3) := dk_180 0 120 (dk_at dksX2_nextToken_15 14 rfl rfl)
theorem dX2_nextToken_370 : decode cX2_nextToken 370 = .ok (.iconst 1, 1) := dk_4 (dk_at dksX2_nextToken_15 17 rfl rfl)
theorem dX2_nextToken_371 : decode cX2_nextToken 371 = .ok (.iadd, 1) := dk_96 (dk_at dksX2_nextToken_15 18 rfl rfl)
theorem dX2_nextToken_372 : decode cX2_nextToken 372 = .ok (.putfield 120, 3) := dk_181 0 120 (dk_at dksX2_nextToken_15 19 rfl rfl)
theorem dX2_nextToken_375 : decode cX2_nextToken 375 = .ok (.aload_n 0, 1) := dk_42 (dk_at dksX2_nextToken_15 22 rfl rfl)
theorem dX2_nextToken_376 : decode cX2_nextToken 376 = .ok (.iload_n 1, 1) := dk_27 (dk_at dksX2_nextToken_15 23 rfl rfl)
theorem dX2_nextToken_377 : decode cX2_nextToken 377 = .ok (.bipush 60, 2) := dk_16 60 (dk_at dksX2_nextToken_16 0 rfl rfl)
theorem dX2_nextToken_379 : decode cX2_nextToken 379 = .ok (.if_icmp .ne 7, 3) := dk_160 0 7 (dk_at dksX2_nextToken_16 2 rfl rfl)
theorem dX2_nextToken_382 : decode cX2_nextToken 382 = .ok (.iconst 4, 1) := dk_7 (dk_at dksX2_nextToken_16 5 rfl rfl)
theorem dX2_nextToken_383 : decode cX2_nextToken 383 = .ok (.goto 4, 3) := dk_167 0 4 (dk_at dksX2_nextToken_16 6 rfl rfl)
theorem dX2_nextToken_386 : decode cX2_nextToken 386 = .ok (.iconst 5, 1) := dk_8 (dk_at dksX2_nextToken_16 9 rfl rfl)
theorem dX2_nextToken_387 : decode cX2_nextToken 387 = .ok (.putfield 129, 3) := dk_181 0 129 (dk_at dksX2_nextToken_16 10 rfl rfl)
theorem dX2_nextToken_390 : decode cX2_nextToken 390 = .ok (.return_, 1) := dk_177 (dk_at dksX2_nextToken_16 13 rfl rfl)
def dkwX2_byteAt_0 : List UInt8 := [27, 42, 180, 0, 114, 162, 0, 12, 42, 180, 0, 19, 27, 46, 167, 0, 4, 2, 172]
abbrev dktX2_byteAt_0 : List UInt8 := dkwX2_byteAt_0 ++ []
theorem dksX2_byteAt_0 : cX2_byteAt.data.toList.drop 0 = dktX2_byteAt_0 := by decide +kernel
theorem dX2_byteAt_0 : decode cX2_byteAt 0 = .ok (.iload_n 1, 1) := dk_27 (dk_at dksX2_byteAt_0 0 rfl rfl)
theorem dX2_byteAt_1 : decode cX2_byteAt 1 = .ok (.aload_n 0, 1) := dk_42 (dk_at dksX2_byteAt_0 1 rfl rfl)
theorem dX2_byteAt_2 : decode cX2_byteAt 2 = .ok (.getfield 114, 3) := dk_180 0 114 (dk_at dksX2_byteAt_0 2 rfl rfl)
theorem dX2_byteAt_5 : decode cX2_byteAt 5 = .ok (.if_icmp .ge 12, 3) := dk_162 0 12 (dk_at dksX2_byteAt_0 5 rfl rfl)
theorem dX2_byteAt_8 : decode cX2_byteAt 8 = .ok (.aload_n 0, 1) := dk_42 (dk_at dksX2_byteAt_0 8 rfl rfl)
theorem dX2_byteAt_9 : decode cX2_byteAt 9 = .ok (.getfield 19, 3) := dk_180 0 19 (dk_at dksX2_byteAt_0 9 rfl rfl)
theorem dX2_byteAt_12 : decode cX2_byteAt 12 = .ok (.iload_n 1, 1) := dk_27 (dk_at dksX2_byteAt_0 12 rfl rfl)
theorem dX2_byteAt_13 : decode cX2_byteAt 13 = .ok (.iaload, 1) := dk_46 (dk_at dksX2_byteAt_0 13 rfl rfl)
theorem dX2_byteAt_14 : decode cX2_byteAt 14 = .ok (.goto 4, 3) := dk_167 0 4 (dk_at dksX2_byteAt_0 14 rfl rfl)
theorem dX2_byteAt_17 : decode cX2_byteAt 17 = .ok (.iconst (-1), 1) := dk_2 (dk_at dksX2_byteAt_0 17 rfl rfl)
theorem dX2_byteAt_18 : decode cX2_byteAt 18 = .ok (.ireturn, 1) := dk_172 (dk_at dksX2_byteAt_0 18 rfl rfl)
def dkwX2_isDigit_0 : List UInt8 := [26, 16, 48, 16, 57, 184, 0, 75, 172]
abbrev dktX2_isDigit_0 : List UInt8 := dkwX2_isDigit_0 ++ []
theorem dksX2_isDigit_0 : cX2_isDigit.data.toList.drop 0 = dktX2_isDigit_0 := by decide +kernel
theorem dX2_isDigit_0 : decode cX2_isDigit 0 = .ok (.iload_n 0, 1) := dk_26 (dk_at dksX2_isDigit_0 0 rfl rfl)
theorem dX2_isDigit_1 : decode cX2_isDigit 1 = .ok (.bipush 48, 2) := dk_16 48 (dk_at dksX2_isDigit_0 1 rfl rfl)
theorem dX2_isDigit_3 : decode cX2_isDigit 3 = .ok (.bipush 57, 2) := dk_16 57 (dk_at dksX2_isDigit_0 3 rfl rfl)
theorem dX2_isDigit_5 : decode cX2_isDigit 5 = .ok (.invokestatic 75, 3) := dk_184 0 75 (dk_at dksX2_isDigit_0 5 rfl rfl)
theorem dX2_isDigit_8 : decode cX2_isDigit 8 = .ok (.ireturn, 1) := dk_172 (dk_at dksX2_isDigit_0 8 rfl rfl)
def dkwX2_isLetter_1 : List UInt8 := [167, 0, 4, 3, 172]
abbrev dktX2_isLetter_1 : List UInt8 := dkwX2_isLetter_1 ++ []
def dkwX2_isLetter_0 : List UInt8 := [26, 16, 97, 16, 122, 184, 0, 75, 154, 0, 14, 26, 16, 65, 16, 90, 184, 0, 75, 153, 0, 7, 4]
abbrev dktX2_isLetter_0 : List UInt8 := dkwX2_isLetter_0 ++ dktX2_isLetter_1
theorem dksX2_isLetter_0 : cX2_isLetter.data.toList.drop 0 = dktX2_isLetter_0 := by decide +kernel
theorem dksX2_isLetter_1 : cX2_isLetter.data.toList.drop 23 = dktX2_isLetter_1 := dk_seg dksX2_isLetter_0 23 rfl rfl
theorem dX2_isLetter_0 : decode cX2_isLetter 0 = .ok (.iload_n 0, 1) := dk_26 (dk_at dksX2_isLetter_0 0 rfl rfl)
theorem dX2_isLetter_1 : decode cX2_isLetter 1 = .ok (.bipush 97, 2) := dk_16 97 (dk_at dksX2_isLetter_0 1 rfl rfl)
theorem dX2_isLetter_3 : decode cX2_isLetter 3 = .ok (.bipush 122, 2) := dk_16 122 (dk_at dksX2_isLetter_0 3 rfl rfl)
theorem dX2_isLetter_5 : decode cX2_isLetter 5 = .ok (.invokestatic 75, 3) := dk_184 0 75 (dk_at dksX2_isLetter_0 5 rfl rfl)
theorem dX2_isLetter_8 : decode cX2_isLetter 8 = .ok (.ifCond .ne 14, 3) := dk_154 0 14 (dk_at dksX2_isLetter_0 8 rfl rfl)
theorem dX2_isLetter_11 : decode cX2_isLetter 11 = .ok (.iload_n 0, 1) := dk_26 (dk_at dksX2_isLetter_0 11 rfl rfl)
theorem dX2_isLetter_12 : decode cX2_isLetter 12 = .ok (.bipush 65, 2) := dk_16 65 (dk_at dksX2_isLetter_0 12 rfl rfl)
theorem dX2_isLetter_14 : decode cX2_isLetter 14 = .ok (.bipush 90, 2) := dk_16 90 (dk_at dksX2_isLetter_0 14 rfl rfl)
theorem dX2_isLetter_16 : decode cX2_isLetter 16 = .ok (.invokestatic 75, 3) := dk_184 0 75 (dk_at dksX2_isLetter_0 16 rfl rfl)
theorem dX2_isLetter_19 : decode cX2_isLetter 19 = .ok (.ifCond .eq 7, 3) := dk_153 0 7 (dk_at dksX2_isLetter_0 19 rfl rfl)
theorem dX2_isLetter_22 : decode cX2_isLetter 22 = .ok (.iconst 1, 1) := dk_4 (dk_at dksX2_isLetter_0 22 rfl rfl)
theorem dX2_isLetter_23 : decode cX2_isLetter 23 = .ok (.goto 4, 3) := dk_167 0 4 (dk_at dksX2_isLetter_1 0 rfl rfl)
theorem dX2_isLetter_26 : decode cX2_isLetter 26 = .ok (.iconst 0, 1) := dk_3 (dk_at dksX2_isLetter_1 3 rfl rfl)
theorem dX2_isLetter_27 : decode cX2_isLetter 27 = .ok (.ireturn, 1) := dk_172 (dk_at dksX2_isLetter_1 4 rfl rfl)
def dkwX2_clause_8 : List UInt8 := [172, 42, 182, 0, 184, 3, 172]
abbrev dktX2_clause_8 : List UInt8 := dkwX2_clause_8 ++ []
def dkwX2_clause_7 : List UInt8 := [79, 42, 180, 0, 16, 42, 180, 0, 154, 92, 46, 4, 96, 79, 42, 180, 0, 129, 16, 59, 159, 0, 5, 4]
abbrev dktX2_clause_7 : List UInt8 := dkwX2_clause_7 ++ dktX2_clause_8
def dkwX2_clause_6 : List UInt8 := [162, 0, 25, 42, 180, 0, 16, 29, 4, 96, 21, 4, 79, 42, 180, 0, 16, 29, 5, 96, 42, 180, 0, 157]
abbrev dktX2_clause_6 : List UInt8 := dkwX2_clause_6 ++ dktX2_clause_7
def dkwX2_clause_5 : List UInt8 := [182, 0, 220, 167, 0, 7, 42, 182, 1, 3, 54, 5, 21, 5, 153, 0, 6, 21, 5, 172, 27, 6]
abbrev dktX2_clause_5 : List UInt8 := dkwX2_clause_5 ++ dktX2_clause_6
def dkwX2_clause_4 : List UInt8 := [180, 0, 157, 54, 4, 27, 6, 161, 0, 12, 42, 29, 27, 182, 1, 0, 167, 0, 18, 27, 154, 0, 10, 42]
abbrev dktX2_clause_4 : List UInt8 := dkwX2_clause_4 ++ dktX2_clause_5
def dkwX2_clause_3 : List UInt8 := [182, 0, 184, 42, 180, 0, 154, 4, 96, 7, 28, 104, 96, 62, 42, 180, 0, 16, 29, 27, 79, 42]
abbrev dktX2_clause_3 : List UInt8 := dkwX2_clause_3 ++ dktX2_clause_4
def dkwX2_clause_2 : List UInt8 := [172, 27, 6, 162, 0, 15, 42, 89, 180, 0, 253, 4, 27, 120, 128, 181, 0, 253, 42, 27, 181, 0, 181, 42]
abbrev dktX2_clause_2 : List UInt8 := dkwX2_clause_2 ++ dktX2_clause_3
def dkwX2_clause_1 : List UInt8 := [4, 160, 0, 5, 7, 172, 42, 180, 0, 16, 42, 180, 0, 154, 46, 61, 28, 16, 24, 160, 0, 6, 16, 6]
abbrev dktX2_clause_1 : List UInt8 := dkwX2_clause_1 ++ dktX2_clause_2
def dkwX2_clause_0 : List UInt8 := [42, 182, 0, 250, 60, 27, 156, 0, 5, 4, 172, 27, 6, 162, 0, 17, 42, 180, 0, 253, 27, 122, 4, 126]
abbrev dktX2_clause_0 : List UInt8 := dkwX2_clause_0 ++ dktX2_clause_1
theorem dksX2_clause_0 : cX2_clause.data.toList.drop 0 = dktX2_clause_0 := by decide +kernel
theorem dksX2_clause_1 : cX2_clause.data.toList.drop 24 = dktX2_clause_1 := dk_seg dksX2_clause_0 24 rfl rfl
theorem dksX2_clause_2 : cX2_clause.data.toList.drop 48 = dktX2_clause_2 := dk_seg dksX2_clause_1 24 rfl rfl
theorem dksX2_clause_3 : cX2_clause.data.toList.drop 72 = dktX2_clause_3 := dk_seg dksX2_clause_2 24 rfl rfl
theorem dksX2_clause_4 : cX2_clause.data.toList.drop 94 = dktX2_clause_4 := dk_seg dksX2_clause_3 22 rfl rfl
theorem dksX2_clause_5 : cX2_clause.data.toList.drop 118 = dktX2_clause_5 := dk_seg dksX2_clause_4 24 rfl rfl
theorem dksX2_clause_6 : cX2_clause.data.toList.drop 140 = dktX2_clause_6 := dk_seg dksX2_clause_5 22 rfl rfl
theorem dksX2_clause_7 : cX2_clause.data.toList.drop 164 = dktX2_clause_7 := dk_seg dksX2_clause_6 24 rfl rfl
theorem dksX2_clause_8 : cX2_clause.data.toList.drop 188 = dktX2_clause_8 := dk_seg dksX2_clause_7 24 rfl rfl
theorem dX2_clause_0 : decode cX2_clause 0 = .ok (.aload_n 0, 1) := dk_42 (dk_at dksX2_clause_0 0 rfl rfl)
theorem dX2_clause_1 : decode cX2_clause 1 = .ok (.invokevirtual 250, 3) := dk_182 0 250 (dk_at dksX2_clause_0 1 rfl rfl)
theorem dX2_clause_4 : decode cX2_clause 4 = .ok (.istore_n 1, 1) := dk_60 (dk_at dksX2_clause_0 4 rfl rfl)
theorem dX2_clause_5 : decode cX2_clause 5 = .ok (.iload_n 1, 1) := dk_27 (dk_at dksX2_clause_0 5 rfl rfl)
theorem dX2_clause_6 : decode cX2_clause 6 = .ok (.ifCond .ge 5, 3) := dk_156 0 5 (dk_at dksX2_clause_0 6 rfl rfl)
theorem dX2_clause_9 : decode cX2_clause 9 = .ok (.iconst 1, 1) := dk_4 (dk_at dksX2_clause_0 9 rfl rfl)
theorem dX2_clause_10 : decode cX2_clause 10 = .ok (.ireturn, 1) := dk_172 (dk_at dksX2_clause_0 10 rfl rfl)
theorem dX2_clause_11 : decode cX2_clause 11 = .ok (.iload_n 1, 1) := dk_27 (dk_at dksX2_clause_0 11 rfl rfl)
theorem dX2_clause_12 : decode cX2_clause 12 = .ok (.iconst 3, 1) := dk_6 (dk_at dksX2_clause_0 12 rfl rfl)
theorem dX2_clause_13 : decode cX2_clause 13 = .ok (.if_icmp .ge 17, 3) := dk_162 0 17 (dk_at dksX2_clause_0 13 rfl rfl)
theorem dX2_clause_16 : decode cX2_clause 16 = .ok (.aload_n 0, 1) := dk_42 (dk_at dksX2_clause_0 16 rfl rfl)
theorem dX2_clause_17 : decode cX2_clause 17 = .ok (.getfield 253, 3) := dk_180 0 253 (dk_at dksX2_clause_0 17 rfl rfl)
theorem dX2_clause_20 : decode cX2_clause 20 = .ok (.iload_n 1, 1) := dk_27 (dk_at dksX2_clause_0 20 rfl rfl)
theorem dX2_clause_21 : decode cX2_clause 21 = .ok (.ishr, 1) := dk_122 (dk_at dksX2_clause_0 21 rfl rfl)
theorem dX2_clause_22 : decode cX2_clause 22 = .ok (.iconst 1, 1) := dk_4 (dk_at dksX2_clause_0 22 rfl rfl)
theorem dX2_clause_23 : decode cX2_clause 23 = .ok (.iand, 1) := dk_126 (dk_at dksX2_clause_0 23 rfl rfl)
theorem dX2_clause_24 : decode cX2_clause 24 = .ok (.iconst 1, 1) := dk_4 (dk_at dksX2_clause_1 0 rfl rfl)
theorem dX2_clause_25 : decode cX2_clause 25 = .ok (.if_icmp .ne 5, 3) := dk_160 0 5 (dk_at dksX2_clause_1 1 rfl rfl)
theorem dX2_clause_28 : decode cX2_clause 28 = .ok (.iconst 4, 1) := dk_7 (dk_at dksX2_clause_1 4 rfl rfl)
theorem dX2_clause_29 : decode cX2_clause 29 = .ok (.ireturn, 1) := dk_172 (dk_at dksX2_clause_1 5 rfl rfl)
theorem dX2_clause_30 : decode cX2_clause 30 = .ok (.aload_n 0, 1) := dk_42 (dk_at dksX2_clause_1 6 rfl rfl)
theorem dX2_clause_31 : decode cX2_clause 31 = .ok (.getfield 16, 3) := dk_180 0 16 (dk_at dksX2_clause_1 7 rfl rfl)
theorem dX2_clause_34 : decode cX2_clause 34 = .ok (.aload_n 0, 1) := dk_42 (dk_at dksX2_clause_1 10 rfl rfl)
theorem dX2_clause_35 : decode cX2_clause 35 = .ok (.getfield 154, 3) := dk_180 0 154 (dk_at dksX2_clause_1 11 rfl rfl)
theorem dX2_clause_38 : decode cX2_clause 38 = .ok (.iaload, 1) := dk_46 (dk_at dksX2_clause_1 14 rfl rfl)
theorem dX2_clause_39 : decode cX2_clause 39 = .ok (.istore_n 2, 1) := dk_61 (dk_at dksX2_clause_1 15 rfl rfl)
theorem dX2_clause_40 : decode cX2_clause 40 = .ok (.iload_n 2, 1) := dk_28 (dk_at dksX2_clause_1 16 rfl rfl)
theorem dX2_clause_41 : decode cX2_clause 41 = .ok (.bipush 24, 2) := dk_16 24 (dk_at dksX2_clause_1 17 rfl rfl)
theorem dX2_clause_43 : decode cX2_clause 43 = .ok (.if_icmp .ne 6, 3) := dk_160 0 6 (dk_at dksX2_clause_1 19 rfl rfl)
theorem dX2_clause_46 : decode cX2_clause 46 = .ok (.bipush 6, 2) := dk_16 6 (dk_at dksX2_clause_1 22 rfl rfl)
theorem dX2_clause_48 : decode cX2_clause 48 = .ok (.ireturn, 1) := dk_172 (dk_at dksX2_clause_2 0 rfl rfl)
theorem dX2_clause_49 : decode cX2_clause 49 = .ok (.iload_n 1, 1) := dk_27 (dk_at dksX2_clause_2 1 rfl rfl)
theorem dX2_clause_50 : decode cX2_clause 50 = .ok (.iconst 3, 1) := dk_6 (dk_at dksX2_clause_2 2 rfl rfl)
theorem dX2_clause_51 : decode cX2_clause 51 = .ok (.if_icmp .ge 15, 3) := dk_162 0 15 (dk_at dksX2_clause_2 3 rfl rfl)
theorem dX2_clause_54 : decode cX2_clause 54 = .ok (.aload_n 0, 1) := dk_42 (dk_at dksX2_clause_2 6 rfl rfl)
theorem dX2_clause_55 : decode cX2_clause 55 = .ok (.dup, 1) := dk_89 (dk_at dksX2_clause_2 7 rfl rfl)
theorem dX2_clause_56 : decode cX2_clause 56 = .ok (.getfield 253, 3) := dk_180 0 253 (dk_at dksX2_clause_2 8 rfl rfl)
theorem dX2_clause_59 : decode cX2_clause 59 = .ok (.iconst 1, 1) := dk_4 (dk_at dksX2_clause_2 11 rfl rfl)
theorem dX2_clause_60 : decode cX2_clause 60 = .ok (.iload_n 1, 1) := dk_27 (dk_at dksX2_clause_2 12 rfl rfl)
theorem dX2_clause_61 : decode cX2_clause 61 = .ok (.ishl, 1) := dk_120 (dk_at dksX2_clause_2 13 rfl rfl)
theorem dX2_clause_62 : decode cX2_clause 62 = .ok (.ior, 1) := dk_128 (dk_at dksX2_clause_2 14 rfl rfl)
theorem dX2_clause_63 : decode cX2_clause 63 = .ok (.putfield 253, 3) := dk_181 0 253 (dk_at dksX2_clause_2 15 rfl rfl)
theorem dX2_clause_66 : decode cX2_clause 66 = .ok (.aload_n 0, 1) := dk_42 (dk_at dksX2_clause_2 18 rfl rfl)
theorem dX2_clause_67 : decode cX2_clause 67 = .ok (.iload_n 1, 1) := dk_27 (dk_at dksX2_clause_2 19 rfl rfl)
theorem dX2_clause_68 : decode cX2_clause 68 = .ok (.putfield 181, 3) := dk_181 0 181 (dk_at dksX2_clause_2 20 rfl rfl)
theorem dX2_clause_71 : decode cX2_clause 71 = .ok (.aload_n 0, 1) := dk_42 (dk_at dksX2_clause_2 23 rfl rfl)
theorem dX2_clause_72 : decode cX2_clause 72 = .ok (.invokevirtual 184, 3) := dk_182 0 184 (dk_at dksX2_clause_3 0 rfl rfl)
theorem dX2_clause_75 : decode cX2_clause 75 = .ok (.aload_n 0, 1) := dk_42 (dk_at dksX2_clause_3 3 rfl rfl)
theorem dX2_clause_76 : decode cX2_clause 76 = .ok (.getfield 154, 3) := dk_180 0 154 (dk_at dksX2_clause_3 4 rfl rfl)
theorem dX2_clause_79 : decode cX2_clause 79 = .ok (.iconst 1, 1) := dk_4 (dk_at dksX2_clause_3 7 rfl rfl)
theorem dX2_clause_80 : decode cX2_clause 80 = .ok (.iadd, 1) := dk_96 (dk_at dksX2_clause_3 8 rfl rfl)
theorem dX2_clause_81 : decode cX2_clause 81 = .ok (.iconst 4, 1) := dk_7 (dk_at dksX2_clause_3 9 rfl rfl)
theorem dX2_clause_82 : decode cX2_clause 82 = .ok (.iload_n 2, 1) := dk_28 (dk_at dksX2_clause_3 10 rfl rfl)
theorem dX2_clause_83 : decode cX2_clause 83 = .ok (.imul, 1) := dk_104 (dk_at dksX2_clause_3 11 rfl rfl)
theorem dX2_clause_84 : decode cX2_clause 84 = .ok (.iadd, 1) := dk_96 (dk_at dksX2_clause_3 12 rfl rfl)
theorem dX2_clause_85 : decode cX2_clause 85 = .ok (.istore_n 3, 1) := dk_62 (dk_at dksX2_clause_3 13 rfl rfl)
theorem dX2_clause_86 : decode cX2_clause 86 = .ok (.aload_n 0, 1) := dk_42 (dk_at dksX2_clause_3 14 rfl rfl)
theorem dX2_clause_87 : decode cX2_clause 87 = .ok (.getfield 16, 3) := dk_180 0 16 (dk_at dksX2_clause_3 15 rfl rfl)
theorem dX2_clause_90 : decode cX2_clause 90 = .ok (.iload_n 3, 1) := dk_29 (dk_at dksX2_clause_3 18 rfl rfl)
theorem dX2_clause_91 : decode cX2_clause 91 = .ok (.iload_n 1, 1) := dk_27 (dk_at dksX2_clause_3 19 rfl rfl)
theorem dX2_clause_92 : decode cX2_clause 92 = .ok (.iastore, 1) := dk_79 (dk_at dksX2_clause_3 20 rfl rfl)
theorem dX2_clause_93 : decode cX2_clause 93 = .ok (.aload_n 0, 1) := dk_42 (dk_at dksX2_clause_3 21 rfl rfl)
theorem dX2_clause_94 : decode cX2_clause 94 = .ok (.getfield 157, 3) := dk_180 0 157 (dk_at dksX2_clause_4 0 rfl rfl)
theorem dX2_clause_97 : decode cX2_clause 97 = .ok (.istore 4, 2) := dk_54 4 (dk_at dksX2_clause_4 3 rfl rfl)
theorem dX2_clause_99 : decode cX2_clause 99 = .ok (.iload_n 1, 1) := dk_27 (dk_at dksX2_clause_4 5 rfl rfl)
theorem dX2_clause_100 : decode cX2_clause 100 = .ok (.iconst 3, 1) := dk_6 (dk_at dksX2_clause_4 6 rfl rfl)
theorem dX2_clause_101 : decode cX2_clause 101 = .ok (.if_icmp .lt 12, 3) := dk_161 0 12 (dk_at dksX2_clause_4 7 rfl rfl)
theorem dX2_clause_104 : decode cX2_clause 104 = .ok (.aload_n 0, 1) := dk_42 (dk_at dksX2_clause_4 10 rfl rfl)
theorem dX2_clause_105 : decode cX2_clause 105 = .ok (.iload_n 3, 1) := dk_29 (dk_at dksX2_clause_4 11 rfl rfl)
theorem dX2_clause_106 : decode cX2_clause 106 = .ok (.iload_n 1, 1) := dk_27 (dk_at dksX2_clause_4 12 rfl rfl)
theorem dX2_clause_107 : decode cX2_clause 107 = .ok (.invokevirtual 256, 3) := dk_182 1 0 (dk_at dksX2_clause_4 13 rfl rfl)
theorem dX2_clause_110 : decode cX2_clause 110 = .ok (.goto 18, 3) := dk_167 0 18 (dk_at dksX2_clause_4 16 rfl rfl)
theorem dX2_clause_113 : decode cX2_clause 113 = .ok (.iload_n 1, 1) := dk_27 (dk_at dksX2_clause_4 19 rfl rfl)
theorem dX2_clause_114 : decode cX2_clause 114 = .ok (.ifCond .ne 10, 3) := dk_154 0 10 (dk_at dksX2_clause_4 20 rfl rfl)
theorem dX2_clause_117 : decode cX2_clause 117 = .ok (.aload_n 0, 1) := dk_42 (dk_at dksX2_clause_4 23 rfl rfl)
theorem dX2_clause_118 : decode cX2_clause 118 = .ok (.invokevirtual 220, 3) := dk_182 0 220 (dk_at dksX2_clause_5 0 rfl rfl)
theorem dX2_clause_121 : decode cX2_clause 121 = .ok (.goto 7, 3) := dk_167 0 7 (dk_at dksX2_clause_5 3 rfl rfl)
theorem dX2_clause_124 : decode cX2_clause 124 = .ok (.aload_n 0, 1) := dk_42 (dk_at dksX2_clause_5 6 rfl rfl)
theorem dX2_clause_125 : decode cX2_clause 125 = .ok (.invokevirtual 259, 3) := dk_182 1 3 (dk_at dksX2_clause_5 7 rfl rfl)
theorem dX2_clause_128 : decode cX2_clause 128 = .ok (.istore 5, 2) := dk_54 5 (dk_at dksX2_clause_5 10 rfl rfl)
theorem dX2_clause_130 : decode cX2_clause 130 = .ok (.iload 5, 2) := dk_21 5 (dk_at dksX2_clause_5 12 rfl rfl)
theorem dX2_clause_132 : decode cX2_clause 132 = .ok (.ifCond .eq 6, 3) := dk_153 0 6 (dk_at dksX2_clause_5 14 rfl rfl)
theorem dX2_clause_135 : decode cX2_clause 135 = .ok (.iload 5, 2) := dk_21 5 (dk_at dksX2_clause_5 17 rfl rfl)
theorem dX2_clause_137 : decode cX2_clause 137 = .ok (.ireturn, 1) := dk_172 (dk_at dksX2_clause_5 19 rfl rfl)
theorem dX2_clause_138 : decode cX2_clause 138 = .ok (.iload_n 1, 1) := dk_27 (dk_at dksX2_clause_5 20 rfl rfl)
theorem dX2_clause_139 : decode cX2_clause 139 = .ok (.iconst 3, 1) := dk_6 (dk_at dksX2_clause_5 21 rfl rfl)
theorem dX2_clause_140 : decode cX2_clause 140 = .ok (.if_icmp .ge 25, 3) := dk_162 0 25 (dk_at dksX2_clause_6 0 rfl rfl)
theorem dX2_clause_143 : decode cX2_clause 143 = .ok (.aload_n 0, 1) := dk_42 (dk_at dksX2_clause_6 3 rfl rfl)
theorem dX2_clause_144 : decode cX2_clause 144 = .ok (.getfield 16, 3) := dk_180 0 16 (dk_at dksX2_clause_6 4 rfl rfl)
theorem dX2_clause_147 : decode cX2_clause 147 = .ok (.iload_n 3, 1) := dk_29 (dk_at dksX2_clause_6 7 rfl rfl)
theorem dX2_clause_148 : decode cX2_clause 148 = .ok (.iconst 1, 1) := dk_4 (dk_at dksX2_clause_6 8 rfl rfl)
theorem dX2_clause_149 : decode cX2_clause 149 = .ok (.iadd, 1) := dk_96 (dk_at dksX2_clause_6 9 rfl rfl)
theorem dX2_clause_150 : decode cX2_clause 150 = .ok (.iload 4, 2) := dk_21 4 (dk_at dksX2_clause_6 10 rfl rfl)
theorem dX2_clause_152 : decode cX2_clause 152 = .ok (.iastore, 1) := dk_79 (dk_at dksX2_clause_6 12 rfl rfl)
theorem dX2_clause_153 : decode cX2_clause 153 = .ok (.aload_n 0, 1) := dk_42 (dk_at dksX2_clause_6 13 rfl rfl)
theorem dX2_clause_154 : decode cX2_clause 154 = .ok (.getfield 16, 3) := dk_180 0 16 (dk_at dksX2_clause_6 14 rfl rfl)
theorem dX2_clause_157 : decode cX2_clause 157 = .ok (.iload_n 3, 1) := dk_29 (dk_at dksX2_clause_6 17 rfl rfl)
theorem dX2_clause_158 : decode cX2_clause 158 = .ok (.iconst 2, 1) := dk_5 (dk_at dksX2_clause_6 18 rfl rfl)
theorem dX2_clause_159 : decode cX2_clause 159 = .ok (.iadd, 1) := dk_96 (dk_at dksX2_clause_6 19 rfl rfl)
theorem dX2_clause_160 : decode cX2_clause 160 = .ok (.aload_n 0, 1) := dk_42 (dk_at dksX2_clause_6 20 rfl rfl)
theorem dX2_clause_161 : decode cX2_clause 161 = .ok (.getfield 157, 3) := dk_180 0 157 (dk_at dksX2_clause_6 21 rfl rfl)
theorem dX2_clause_164 : decode cX2_clause 164 = .ok (.iastore, 1) := dk_79 (dk_at dksX2_clause_7 0 rfl rfl)
theorem dX2_clause_165 : decode cX2_clause 165 = .ok (.aload_n 0, 1) := dk_42 (dk_at dksX2_clause_7 1 rfl rfl)
theorem dX2_clause_166 : decode cX2_clause 166 = .ok (.getfield 16, 3) := dk_180 0 16 (dk_at dksX2_clause_7 2 rfl rfl)
theorem dX2_clause_169 : decode cX2_clause 169 = .ok (.aload_n 0, 1) := dk_42 (dk_at dksX2_clause_7 5 rfl rfl)
theorem dX2_clause_170 : decode cX2_clause 170 = .ok (.getfield 154, 3) := dk_180 0 154 (dk_at dksX2_clause_7 6 rfl rfl)
theorem dX2_clause_173 : decode cX2_clause 173 = .ok (.dup2, 1) := dk_92 (dk_at dksX2_clause_7 9 rfl rfl)
theorem dX2_clause_174 : decode cX2_clause 174 = .ok (.iaload, 1) := dk_46 (dk_at dksX2_clause_7 10 rfl rfl)
theorem dX2_clause_175 : decode cX2_clause 175 = .ok (.iconst 1, 1) := dk_4 (dk_at dksX2_clause_7 11 rfl rfl)
theorem dX2_clause_176 : decode cX2_clause 176 = .ok (.iadd, 1) := dk_96 (dk_at dksX2_clause_7 12 rfl rfl)
theorem dX2_clause_177 : decode cX2_clause 177 = .ok (.iastore, 1) := dk_79 (dk_at dksX2_clause_7 13 rfl rfl)
theorem dX2_clause_178 : decode cX2_clause 178 = .ok (.aload_n 0, 1) := dk_42 (dk_at dksX2_clause_7 14 rfl rfl)
theorem dX2_clause_179 : decode cX2_clause 179 = .ok (.getfield 129, 3) := dk_180 0 129 (dk_at dksX2_clause_7 15 rfl rfl)
theorem dX2_clause_182 : decode cX2_clause 182 = .ok (.bipush 59, 2) := dk_16 59 (dk_at dksX2_clause_7 18 rfl rfl)
theorem dX2_clause_184 : decode cX2_clause 184 = .ok (.if_icmp .eq 5, 3) := dk_159 0 5 (dk_at dksX2_clause_7 20 rfl rfl)
theorem dX2_clause_187 : decode cX2_clause 187 = .ok (.iconst 1, 1) := dk_4 (dk_at dksX2_clause_7 23 rfl rfl)
theorem dX2_clause_188 : decode cX2_clause 188 = .ok (.ireturn, 1) := dk_172 (dk_at dksX2_clause_8 0 rfl rfl)
theorem dX2_clause_189 : decode cX2_clause 189 = .ok (.aload_n 0, 1) := dk_42 (dk_at dksX2_clause_8 1 rfl rfl)
theorem dX2_clause_190 : decode cX2_clause 190 = .ok (.invokevirtual 184, 3) := dk_182 0 184 (dk_at dksX2_clause_8 2 rfl rfl)
theorem dX2_clause_193 : decode cX2_clause 193 = .ok (.iconst 0, 1) := dk_3 (dk_at dksX2_clause_8 5 rfl rfl)
theorem dX2_clause_194 : decode cX2_clause 194 = .ok (.ireturn, 1) := dk_172 (dk_at dksX2_clause_8 6 rfl rfl)
def dkwX2_sortOf_8 : List UInt8 := [153, 0, 8, 16, 8, 167, 0, 4, 2, 172]
abbrev dktX2_sortOf_8 : List UInt8 := dkwX2_sortOf_8 ++ []
def dkwX2_sortOf_7 : List UInt8 := [153, 0, 8, 16, 7, 167, 0, 27, 42, 16, 112, 16, 97, 16, 115, 16, 115, 184, 0, 173, 182, 0, 216]
abbrev dktX2_sortOf_7 : List UInt8 := dkwX2_sortOf_7 ++ dktX2_sortOf_8
def dkwX2_sortOf_6 : List UInt8 := [182, 0, 216, 153, 0, 6, 16, 6, 172, 42, 16, 98, 16, 117, 16, 114, 16, 110, 184, 0, 173, 182, 0, 216]
abbrev dktX2_sortOf_6 : List UInt8 := dkwX2_sortOf_6 ++ dktX2_sortOf_7
def dkwX2_sortOf_5 : List UInt8 := [182, 0, 216, 153, 0, 5, 8, 172, 42, 16, 115, 16, 116, 16, 101, 16, 97, 16, 108, 184, 0, 150]
abbrev dktX2_sortOf_5 : List UInt8 := dkwX2_sortOf_5 ++ dktX2_sortOf_6
def dkwX2_sortOf_4 : List UInt8 := [184, 0, 173, 182, 0, 216, 153, 0, 5, 7, 172, 42, 16, 115, 16, 119, 16, 97, 16, 112, 184, 0, 173]
abbrev dktX2_sortOf_4 : List UInt8 := dkwX2_sortOf_4 ++ dktX2_sortOf_5
def dkwX2_sortOf_3 : List UInt8 := [16, 100, 184, 0, 173, 182, 0, 216, 153, 0, 5, 6, 172, 42, 16, 108, 16, 101, 16, 110, 16, 100]
abbrev dktX2_sortOf_3 : List UInt8 := dkwX2_sortOf_3 ++ dktX2_sortOf_4
def dkwX2_sortOf_2 : List UInt8 := [16, 105, 16, 107, 16, 101, 184, 0, 177, 182, 0, 216, 153, 0, 5, 5, 172, 42, 16, 107, 16, 105, 16, 110]
abbrev dktX2_sortOf_2 : List UInt8 := dkwX2_sortOf_2 ++ dktX2_sortOf_3
def dkwX2_sortOf_1 : List UInt8 := [16, 111, 16, 108, 16, 121, 184, 0, 173, 182, 0, 216, 153, 0, 5, 4, 172, 42, 16, 117, 16, 110, 16, 108]
abbrev dktX2_sortOf_1 : List UInt8 := dkwX2_sortOf_1 ++ dktX2_sortOf_2
def dkwX2_sortOf_0 : List UInt8 := [42, 16, 119, 16, 111, 16, 114, 16, 110, 184, 0, 173, 182, 0, 216, 153, 0, 5, 3, 172, 42, 16, 104]
abbrev dktX2_sortOf_0 : List UInt8 := dkwX2_sortOf_0 ++ dktX2_sortOf_1
theorem dksX2_sortOf_0 : cX2_sortOf.data.toList.drop 0 = dktX2_sortOf_0 := by decide +kernel
theorem dksX2_sortOf_1 : cX2_sortOf.data.toList.drop 23 = dktX2_sortOf_1 := dk_seg dksX2_sortOf_0 23 rfl rfl
theorem dksX2_sortOf_2 : cX2_sortOf.data.toList.drop 47 = dktX2_sortOf_2 := dk_seg dksX2_sortOf_1 24 rfl rfl
theorem dksX2_sortOf_3 : cX2_sortOf.data.toList.drop 71 = dktX2_sortOf_3 := dk_seg dksX2_sortOf_2 24 rfl rfl
theorem dksX2_sortOf_4 : cX2_sortOf.data.toList.drop 93 = dktX2_sortOf_4 := dk_seg dksX2_sortOf_3 22 rfl rfl
theorem dksX2_sortOf_5 : cX2_sortOf.data.toList.drop 116 = dktX2_sortOf_5 := dk_seg dksX2_sortOf_4 23 rfl rfl
theorem dksX2_sortOf_6 : cX2_sortOf.data.toList.drop 138 = dktX2_sortOf_6 := dk_seg dksX2_sortOf_5 22 rfl rfl
theorem dksX2_sortOf_7 : cX2_sortOf.data.toList.drop 162 = dktX2_sortOf_7 := dk_seg dksX2_sortOf_6 24 rfl rfl
theorem dksX2_sortOf_8 : cX2_sortOf.data.toList.drop 185 = dktX2_sortOf_8 := dk_seg dksX2_sortOf_7 23 rfl rfl
theorem dX2_sortOf_0 : decode cX2_sortOf 0 = .ok (.aload_n 0, 1) := dk_42 (dk_at dksX2_sortOf_0 0 rfl rfl)
theorem dX2_sortOf_1 : decode cX2_sortOf 1 = .ok (.bipush 119, 2) := dk_16 119 (dk_at dksX2_sortOf_0 1 rfl rfl)
theorem dX2_sortOf_3 : decode cX2_sortOf 3 = .ok (.bipush 111, 2) := dk_16 111 (dk_at dksX2_sortOf_0 3 rfl rfl)
theorem dX2_sortOf_5 : decode cX2_sortOf 5 = .ok (.bipush 114, 2) := dk_16 114 (dk_at dksX2_sortOf_0 5 rfl rfl)
theorem dX2_sortOf_7 : decode cX2_sortOf 7 = .ok (.bipush 110, 2) := dk_16 110 (dk_at dksX2_sortOf_0 7 rfl rfl)
theorem dX2_sortOf_9 : decode cX2_sortOf 9 = .ok (.invokestatic 173, 3) := dk_184 0 173 (dk_at dksX2_sortOf_0 9 rfl rfl)
theorem dX2_sortOf_12 : decode cX2_sortOf 12 = .ok (.invokevirtual 216, 3) := dk_182 0 216 (dk_at dksX2_sortOf_0 12 rfl rfl)
theorem dX2_sortOf_15 : decode cX2_sortOf 15 = .ok (.ifCond .eq 5, 3) := dk_153 0 5 (dk_at dksX2_sortOf_0 15 rfl rfl)
theorem dX2_sortOf_18 : decode cX2_sortOf 18 = .ok (.iconst 0, 1) := dk_3 (dk_at dksX2_sortOf_0 18 rfl rfl)
theorem dX2_sortOf_19 : decode cX2_sortOf 19 = .ok (.ireturn, 1) := dk_172 (dk_at dksX2_sortOf_0 19 rfl rfl)
theorem dX2_sortOf_20 : decode cX2_sortOf 20 = .ok (.aload_n 0, 1) := dk_42 (dk_at dksX2_sortOf_0 20 rfl rfl)
theorem dX2_sortOf_21 : decode cX2_sortOf 21 = .ok (.bipush 104, 2) := dk_16 104 (dk_at dksX2_sortOf_0 21 rfl rfl)
theorem dX2_sortOf_23 : decode cX2_sortOf 23 = .ok (.bipush 111, 2) := dk_16 111 (dk_at dksX2_sortOf_1 0 rfl rfl)
theorem dX2_sortOf_25 : decode cX2_sortOf 25 = .ok (.bipush 108, 2) := dk_16 108 (dk_at dksX2_sortOf_1 2 rfl rfl)
theorem dX2_sortOf_27 : decode cX2_sortOf 27 = .ok (.bipush 121, 2) := dk_16 121 (dk_at dksX2_sortOf_1 4 rfl rfl)
theorem dX2_sortOf_29 : decode cX2_sortOf 29 = .ok (.invokestatic 173, 3) := dk_184 0 173 (dk_at dksX2_sortOf_1 6 rfl rfl)
theorem dX2_sortOf_32 : decode cX2_sortOf 32 = .ok (.invokevirtual 216, 3) := dk_182 0 216 (dk_at dksX2_sortOf_1 9 rfl rfl)
theorem dX2_sortOf_35 : decode cX2_sortOf 35 = .ok (.ifCond .eq 5, 3) := dk_153 0 5 (dk_at dksX2_sortOf_1 12 rfl rfl)
theorem dX2_sortOf_38 : decode cX2_sortOf 38 = .ok (.iconst 1, 1) := dk_4 (dk_at dksX2_sortOf_1 15 rfl rfl)
theorem dX2_sortOf_39 : decode cX2_sortOf 39 = .ok (.ireturn, 1) := dk_172 (dk_at dksX2_sortOf_1 16 rfl rfl)
theorem dX2_sortOf_40 : decode cX2_sortOf 40 = .ok (.aload_n 0, 1) := dk_42 (dk_at dksX2_sortOf_1 17 rfl rfl)
theorem dX2_sortOf_41 : decode cX2_sortOf 41 = .ok (.bipush 117, 2) := dk_16 117 (dk_at dksX2_sortOf_1 18 rfl rfl)
theorem dX2_sortOf_43 : decode cX2_sortOf 43 = .ok (.bipush 110, 2) := dk_16 110 (dk_at dksX2_sortOf_1 20 rfl rfl)
theorem dX2_sortOf_45 : decode cX2_sortOf 45 = .ok (.bipush 108, 2) := dk_16 108 (dk_at dksX2_sortOf_1 22 rfl rfl)
theorem dX2_sortOf_47 : decode cX2_sortOf 47 = .ok (.bipush 105, 2) := dk_16 105 (dk_at dksX2_sortOf_2 0 rfl rfl)
theorem dX2_sortOf_49 : decode cX2_sortOf 49 = .ok (.bipush 107, 2) := dk_16 107 (dk_at dksX2_sortOf_2 2 rfl rfl)
theorem dX2_sortOf_51 : decode cX2_sortOf 51 = .ok (.bipush 101, 2) := dk_16 101 (dk_at dksX2_sortOf_2 4 rfl rfl)
theorem dX2_sortOf_53 : decode cX2_sortOf 53 = .ok (.invokestatic 177, 3) := dk_184 0 177 (dk_at dksX2_sortOf_2 6 rfl rfl)
theorem dX2_sortOf_56 : decode cX2_sortOf 56 = .ok (.invokevirtual 216, 3) := dk_182 0 216 (dk_at dksX2_sortOf_2 9 rfl rfl)
theorem dX2_sortOf_59 : decode cX2_sortOf 59 = .ok (.ifCond .eq 5, 3) := dk_153 0 5 (dk_at dksX2_sortOf_2 12 rfl rfl)
theorem dX2_sortOf_62 : decode cX2_sortOf 62 = .ok (.iconst 2, 1) := dk_5 (dk_at dksX2_sortOf_2 15 rfl rfl)
theorem dX2_sortOf_63 : decode cX2_sortOf 63 = .ok (.ireturn, 1) := dk_172 (dk_at dksX2_sortOf_2 16 rfl rfl)
theorem dX2_sortOf_64 : decode cX2_sortOf 64 = .ok (.aload_n 0, 1) := dk_42 (dk_at dksX2_sortOf_2 17 rfl rfl)
theorem dX2_sortOf_65 : decode cX2_sortOf 65 = .ok (.bipush 107, 2) := dk_16 107 (dk_at dksX2_sortOf_2 18 rfl rfl)
theorem dX2_sortOf_67 : decode cX2_sortOf 67 = .ok (.bipush 105, 2) := dk_16 105 (dk_at dksX2_sortOf_2 20 rfl rfl)
theorem dX2_sortOf_69 : decode cX2_sortOf 69 = .ok (.bipush 110, 2) := dk_16 110 (dk_at dksX2_sortOf_2 22 rfl rfl)
theorem dX2_sortOf_71 : decode cX2_sortOf 71 = .ok (.bipush 100, 2) := dk_16 100 (dk_at dksX2_sortOf_3 0 rfl rfl)
theorem dX2_sortOf_73 : decode cX2_sortOf 73 = .ok (.invokestatic 173, 3) := dk_184 0 173 (dk_at dksX2_sortOf_3 2 rfl rfl)
theorem dX2_sortOf_76 : decode cX2_sortOf 76 = .ok (.invokevirtual 216, 3) := dk_182 0 216 (dk_at dksX2_sortOf_3 5 rfl rfl)
theorem dX2_sortOf_79 : decode cX2_sortOf 79 = .ok (.ifCond .eq 5, 3) := dk_153 0 5 (dk_at dksX2_sortOf_3 8 rfl rfl)
theorem dX2_sortOf_82 : decode cX2_sortOf 82 = .ok (.iconst 3, 1) := dk_6 (dk_at dksX2_sortOf_3 11 rfl rfl)
theorem dX2_sortOf_83 : decode cX2_sortOf 83 = .ok (.ireturn, 1) := dk_172 (dk_at dksX2_sortOf_3 12 rfl rfl)
theorem dX2_sortOf_84 : decode cX2_sortOf 84 = .ok (.aload_n 0, 1) := dk_42 (dk_at dksX2_sortOf_3 13 rfl rfl)
theorem dX2_sortOf_85 : decode cX2_sortOf 85 = .ok (.bipush 108, 2) := dk_16 108 (dk_at dksX2_sortOf_3 14 rfl rfl)
theorem dX2_sortOf_87 : decode cX2_sortOf 87 = .ok (.bipush 101, 2) := dk_16 101 (dk_at dksX2_sortOf_3 16 rfl rfl)
theorem dX2_sortOf_89 : decode cX2_sortOf 89 = .ok (.bipush 110, 2) := dk_16 110 (dk_at dksX2_sortOf_3 18 rfl rfl)
theorem dX2_sortOf_91 : decode cX2_sortOf 91 = .ok (.bipush 100, 2) := dk_16 100 (dk_at dksX2_sortOf_3 20 rfl rfl)
theorem dX2_sortOf_93 : decode cX2_sortOf 93 = .ok (.invokestatic 173, 3) := dk_184 0 173 (dk_at dksX2_sortOf_4 0 rfl rfl)
theorem dX2_sortOf_96 : decode cX2_sortOf 96 = .ok (.invokevirtual 216, 3) := dk_182 0 216 (dk_at dksX2_sortOf_4 3 rfl rfl)
theorem dX2_sortOf_99 : decode cX2_sortOf 99 = .ok (.ifCond .eq 5, 3) := dk_153 0 5 (dk_at dksX2_sortOf_4 6 rfl rfl)
theorem dX2_sortOf_102 : decode cX2_sortOf 102 = .ok (.iconst 4, 1) := dk_7 (dk_at dksX2_sortOf_4 9 rfl rfl)
theorem dX2_sortOf_103 : decode cX2_sortOf 103 = .ok (.ireturn, 1) := dk_172 (dk_at dksX2_sortOf_4 10 rfl rfl)
theorem dX2_sortOf_104 : decode cX2_sortOf 104 = .ok (.aload_n 0, 1) := dk_42 (dk_at dksX2_sortOf_4 11 rfl rfl)
theorem dX2_sortOf_105 : decode cX2_sortOf 105 = .ok (.bipush 115, 2) := dk_16 115 (dk_at dksX2_sortOf_4 12 rfl rfl)
theorem dX2_sortOf_107 : decode cX2_sortOf 107 = .ok (.bipush 119, 2) := dk_16 119 (dk_at dksX2_sortOf_4 14 rfl rfl)
theorem dX2_sortOf_109 : decode cX2_sortOf 109 = .ok (.bipush 97, 2) := dk_16 97 (dk_at dksX2_sortOf_4 16 rfl rfl)
theorem dX2_sortOf_111 : decode cX2_sortOf 111 = .ok (.bipush 112, 2) := dk_16 112 (dk_at dksX2_sortOf_4 18 rfl rfl)
theorem dX2_sortOf_113 : decode cX2_sortOf 113 = .ok (.invokestatic 173, 3) := dk_184 0 173 (dk_at dksX2_sortOf_4 20 rfl rfl)
theorem dX2_sortOf_116 : decode cX2_sortOf 116 = .ok (.invokevirtual 216, 3) := dk_182 0 216 (dk_at dksX2_sortOf_5 0 rfl rfl)
theorem dX2_sortOf_119 : decode cX2_sortOf 119 = .ok (.ifCond .eq 5, 3) := dk_153 0 5 (dk_at dksX2_sortOf_5 3 rfl rfl)
theorem dX2_sortOf_122 : decode cX2_sortOf 122 = .ok (.iconst 5, 1) := dk_8 (dk_at dksX2_sortOf_5 6 rfl rfl)
theorem dX2_sortOf_123 : decode cX2_sortOf 123 = .ok (.ireturn, 1) := dk_172 (dk_at dksX2_sortOf_5 7 rfl rfl)
theorem dX2_sortOf_124 : decode cX2_sortOf 124 = .ok (.aload_n 0, 1) := dk_42 (dk_at dksX2_sortOf_5 8 rfl rfl)
theorem dX2_sortOf_125 : decode cX2_sortOf 125 = .ok (.bipush 115, 2) := dk_16 115 (dk_at dksX2_sortOf_5 9 rfl rfl)
theorem dX2_sortOf_127 : decode cX2_sortOf 127 = .ok (.bipush 116, 2) := dk_16 116 (dk_at dksX2_sortOf_5 11 rfl rfl)
theorem dX2_sortOf_129 : decode cX2_sortOf 129 = .ok (.bipush 101, 2) := dk_16 101 (dk_at dksX2_sortOf_5 13 rfl rfl)
theorem dX2_sortOf_131 : decode cX2_sortOf 131 = .ok (.bipush 97, 2) := dk_16 97 (dk_at dksX2_sortOf_5 15 rfl rfl)
theorem dX2_sortOf_133 : decode cX2_sortOf 133 = .ok (.bipush 108, 2) := dk_16 108 (dk_at dksX2_sortOf_5 17 rfl rfl)
theorem dX2_sortOf_135 : decode cX2_sortOf 135 = .ok (.invokestatic 150, 3) := dk_184 0 150 (dk_at dksX2_sortOf_5 19 rfl rfl)
theorem dX2_sortOf_138 : decode cX2_sortOf 138 = .ok (.invokevirtual 216, 3) := dk_182 0 216 (dk_at dksX2_sortOf_6 0 rfl rfl)
theorem dX2_sortOf_141 : decode cX2_sortOf 141 = .ok (.ifCond .eq 6, 3) := dk_153 0 6 (dk_at dksX2_sortOf_6 3 rfl rfl)
theorem dX2_sortOf_144 : decode cX2_sortOf 144 = .ok (.bipush 6, 2) := dk_16 6 (dk_at dksX2_sortOf_6 6 rfl rfl)
theorem dX2_sortOf_146 : decode cX2_sortOf 146 = .ok (.ireturn, 1) := dk_172 (dk_at dksX2_sortOf_6 8 rfl rfl)
theorem dX2_sortOf_147 : decode cX2_sortOf 147 = .ok (.aload_n 0, 1) := dk_42 (dk_at dksX2_sortOf_6 9 rfl rfl)
theorem dX2_sortOf_148 : decode cX2_sortOf 148 = .ok (.bipush 98, 2) := dk_16 98 (dk_at dksX2_sortOf_6 10 rfl rfl)
theorem dX2_sortOf_150 : decode cX2_sortOf 150 = .ok (.bipush 117, 2) := dk_16 117 (dk_at dksX2_sortOf_6 12 rfl rfl)
theorem dX2_sortOf_152 : decode cX2_sortOf 152 = .ok (.bipush 114, 2) := dk_16 114 (dk_at dksX2_sortOf_6 14 rfl rfl)
theorem dX2_sortOf_154 : decode cX2_sortOf 154 = .ok (.bipush 110, 2) := dk_16 110 (dk_at dksX2_sortOf_6 16 rfl rfl)
theorem dX2_sortOf_156 : decode cX2_sortOf 156 = .ok (.invokestatic 173, 3) := dk_184 0 173 (dk_at dksX2_sortOf_6 18 rfl rfl)
theorem dX2_sortOf_159 : decode cX2_sortOf 159 = .ok (.invokevirtual 216, 3) := dk_182 0 216 (dk_at dksX2_sortOf_6 21 rfl rfl)
theorem dX2_sortOf_162 : decode cX2_sortOf 162 = .ok (.ifCond .eq 8, 3) := dk_153 0 8 (dk_at dksX2_sortOf_7 0 rfl rfl)
theorem dX2_sortOf_165 : decode cX2_sortOf 165 = .ok (.bipush 7, 2) := dk_16 7 (dk_at dksX2_sortOf_7 3 rfl rfl)
theorem dX2_sortOf_167 : decode cX2_sortOf 167 = .ok (.goto 27, 3) := dk_167 0 27 (dk_at dksX2_sortOf_7 5 rfl rfl)
theorem dX2_sortOf_170 : decode cX2_sortOf 170 = .ok (.aload_n 0, 1) := dk_42 (dk_at dksX2_sortOf_7 8 rfl rfl)
theorem dX2_sortOf_171 : decode cX2_sortOf 171 = .ok (.bipush 112, 2) := dk_16 112 (dk_at dksX2_sortOf_7 9 rfl rfl)
theorem dX2_sortOf_173 : decode cX2_sortOf 173 = .ok (.bipush 97, 2) := dk_16 97 (dk_at dksX2_sortOf_7 11 rfl rfl)
theorem dX2_sortOf_175 : decode cX2_sortOf 175 = .ok (.bipush 115, 2) := dk_16 115 (dk_at dksX2_sortOf_7 13 rfl rfl)
theorem dX2_sortOf_177 : decode cX2_sortOf 177 = .ok (.bipush 115, 2) := dk_16 115 (dk_at dksX2_sortOf_7 15 rfl rfl)
theorem dX2_sortOf_179 : decode cX2_sortOf 179 = .ok (.invokestatic 173, 3) := dk_184 0 173 (dk_at dksX2_sortOf_7 17 rfl rfl)
theorem dX2_sortOf_182 : decode cX2_sortOf 182 = .ok (.invokevirtual 216, 3) := dk_182 0 216 (dk_at dksX2_sortOf_7 20 rfl rfl)
theorem dX2_sortOf_185 : decode cX2_sortOf 185 = .ok (.ifCond .eq 8, 3) := dk_153 0 8 (dk_at dksX2_sortOf_8 0 rfl rfl)
theorem dX2_sortOf_188 : decode cX2_sortOf 188 = .ok (.bipush 8, 2) := dk_16 8 (dk_at dksX2_sortOf_8 3 rfl rfl)
theorem dX2_sortOf_190 : decode cX2_sortOf 190 = .ok (.goto 4, 3) := dk_167 0 4 (dk_at dksX2_sortOf_8 5 rfl rfl)
theorem dX2_sortOf_193 : decode cX2_sortOf 193 = .ok (.iconst (-1), 1) := dk_2 (dk_at dksX2_sortOf_8 8 rfl rfl)
theorem dX2_sortOf_194 : decode cX2_sortOf 194 = .ok (.ireturn, 1) := dk_172 (dk_at dksX2_sortOf_8 9 rfl rfl)
def dkwX2_w4_0 : List UInt8 := [26, 27, 28, 184, 0, 146, 16, 8, 121, 29, 133, 129, 173]
abbrev dktX2_w4_0 : List UInt8 := dkwX2_w4_0 ++ []
theorem dksX2_w4_0 : cX2_w4.data.toList.drop 0 = dktX2_w4_0 := by decide +kernel
theorem dX2_w4_0 : decode cX2_w4 0 = .ok (.iload_n 0, 1) := dk_26 (dk_at dksX2_w4_0 0 rfl rfl)
theorem dX2_w4_1 : decode cX2_w4 1 = .ok (.iload_n 1, 1) := dk_27 (dk_at dksX2_w4_0 1 rfl rfl)
theorem dX2_w4_2 : decode cX2_w4 2 = .ok (.iload_n 2, 1) := dk_28 (dk_at dksX2_w4_0 2 rfl rfl)
theorem dX2_w4_3 : decode cX2_w4 3 = .ok (.invokestatic 146, 3) := dk_184 0 146 (dk_at dksX2_w4_0 3 rfl rfl)
theorem dX2_w4_6 : decode cX2_w4 6 = .ok (.bipush 8, 2) := dk_16 8 (dk_at dksX2_w4_0 6 rfl rfl)
theorem dX2_w4_8 : decode cX2_w4 8 = .ok (.lshl, 1) := dk_121 (dk_at dksX2_w4_0 8 rfl rfl)
theorem dX2_w4_9 : decode cX2_w4 9 = .ok (.iload_n 3, 1) := dk_29 (dk_at dksX2_w4_0 9 rfl rfl)
theorem dX2_w4_10 : decode cX2_w4 10 = .ok (.i2l, 1) := dk_133 (dk_at dksX2_w4_0 10 rfl rfl)
theorem dX2_w4_11 : decode cX2_w4 11 = .ok (.lor, 1) := dk_129 (dk_at dksX2_w4_0 11 rfl rfl)
theorem dX2_w4_12 : decode cX2_w4 12 = .ok (.lreturn, 1) := dk_173 (dk_at dksX2_w4_0 12 rfl rfl)
def dkwX2_w3_0 : List UInt8 := [26, 133, 16, 8, 121, 27, 133, 129, 16, 8, 121, 28, 133, 129, 173]
abbrev dktX2_w3_0 : List UInt8 := dkwX2_w3_0 ++ []
theorem dksX2_w3_0 : cX2_w3.data.toList.drop 0 = dktX2_w3_0 := by decide +kernel
theorem dX2_w3_0 : decode cX2_w3 0 = .ok (.iload_n 0, 1) := dk_26 (dk_at dksX2_w3_0 0 rfl rfl)
theorem dX2_w3_1 : decode cX2_w3 1 = .ok (.i2l, 1) := dk_133 (dk_at dksX2_w3_0 1 rfl rfl)
theorem dX2_w3_2 : decode cX2_w3 2 = .ok (.bipush 8, 2) := dk_16 8 (dk_at dksX2_w3_0 2 rfl rfl)
theorem dX2_w3_4 : decode cX2_w3 4 = .ok (.lshl, 1) := dk_121 (dk_at dksX2_w3_0 4 rfl rfl)
theorem dX2_w3_5 : decode cX2_w3 5 = .ok (.iload_n 1, 1) := dk_27 (dk_at dksX2_w3_0 5 rfl rfl)
theorem dX2_w3_6 : decode cX2_w3 6 = .ok (.i2l, 1) := dk_133 (dk_at dksX2_w3_0 6 rfl rfl)
theorem dX2_w3_7 : decode cX2_w3 7 = .ok (.lor, 1) := dk_129 (dk_at dksX2_w3_0 7 rfl rfl)
theorem dX2_w3_8 : decode cX2_w3 8 = .ok (.bipush 8, 2) := dk_16 8 (dk_at dksX2_w3_0 8 rfl rfl)
theorem dX2_w3_10 : decode cX2_w3 10 = .ok (.lshl, 1) := dk_121 (dk_at dksX2_w3_0 10 rfl rfl)
theorem dX2_w3_11 : decode cX2_w3 11 = .ok (.iload_n 2, 1) := dk_28 (dk_at dksX2_w3_0 11 rfl rfl)
theorem dX2_w3_12 : decode cX2_w3 12 = .ok (.i2l, 1) := dk_133 (dk_at dksX2_w3_0 12 rfl rfl)
theorem dX2_w3_13 : decode cX2_w3 13 = .ok (.lor, 1) := dk_129 (dk_at dksX2_w3_0 13 rfl rfl)
theorem dX2_w3_14 : decode cX2_w3 14 = .ok (.lreturn, 1) := dk_173 (dk_at dksX2_w3_0 14 rfl rfl)
def dkwX2_isWord_0 : List UInt8 := [42, 180, 0, 129, 5, 160, 0, 16, 42, 180, 0, 142, 31, 148, 154, 0, 7, 4, 167, 0, 4, 3, 172]
abbrev dktX2_isWord_0 : List UInt8 := dkwX2_isWord_0 ++ []
theorem dksX2_isWord_0 : cX2_isWord.data.toList.drop 0 = dktX2_isWord_0 := by decide +kernel
theorem dX2_isWord_0 : decode cX2_isWord 0 = .ok (.aload_n 0, 1) := dk_42 (dk_at dksX2_isWord_0 0 rfl rfl)
theorem dX2_isWord_1 : decode cX2_isWord 1 = .ok (.getfield 129, 3) := dk_180 0 129 (dk_at dksX2_isWord_0 1 rfl rfl)
theorem dX2_isWord_4 : decode cX2_isWord 4 = .ok (.iconst 2, 1) := dk_5 (dk_at dksX2_isWord_0 4 rfl rfl)
theorem dX2_isWord_5 : decode cX2_isWord 5 = .ok (.if_icmp .ne 16, 3) := dk_160 0 16 (dk_at dksX2_isWord_0 5 rfl rfl)
theorem dX2_isWord_8 : decode cX2_isWord 8 = .ok (.aload_n 0, 1) := dk_42 (dk_at dksX2_isWord_0 8 rfl rfl)
theorem dX2_isWord_9 : decode cX2_isWord 9 = .ok (.getfield 142, 3) := dk_180 0 142 (dk_at dksX2_isWord_0 9 rfl rfl)
theorem dX2_isWord_12 : decode cX2_isWord 12 = .ok (.lload_n 1, 1) := dk_31 (dk_at dksX2_isWord_0 12 rfl rfl)
theorem dX2_isWord_13 : decode cX2_isWord 13 = .ok (.lcmp, 1) := dk_148 (dk_at dksX2_isWord_0 13 rfl rfl)
theorem dX2_isWord_14 : decode cX2_isWord 14 = .ok (.ifCond .ne 7, 3) := dk_154 0 7 (dk_at dksX2_isWord_0 14 rfl rfl)
theorem dX2_isWord_17 : decode cX2_isWord 17 = .ok (.iconst 1, 1) := dk_4 (dk_at dksX2_isWord_0 17 rfl rfl)
theorem dX2_isWord_18 : decode cX2_isWord 18 = .ok (.goto 4, 3) := dk_167 0 4 (dk_at dksX2_isWord_0 18 rfl rfl)
theorem dX2_isWord_21 : decode cX2_isWord 21 = .ok (.iconst 0, 1) := dk_3 (dk_at dksX2_isWord_0 21 rfl rfl)
theorem dX2_isWord_22 : decode cX2_isWord 22 = .ok (.ireturn, 1) := dk_172 (dk_at dksX2_isWord_0 22 rfl rfl)
def dkwX2_w6_0 : List UInt8 := [26, 27, 28, 29, 21, 4, 184, 0, 150, 16, 8, 121, 21, 5, 133, 129, 173]
abbrev dktX2_w6_0 : List UInt8 := dkwX2_w6_0 ++ []
theorem dksX2_w6_0 : cX2_w6.data.toList.drop 0 = dktX2_w6_0 := by decide +kernel
theorem dX2_w6_0 : decode cX2_w6 0 = .ok (.iload_n 0, 1) := dk_26 (dk_at dksX2_w6_0 0 rfl rfl)
theorem dX2_w6_1 : decode cX2_w6 1 = .ok (.iload_n 1, 1) := dk_27 (dk_at dksX2_w6_0 1 rfl rfl)
theorem dX2_w6_2 : decode cX2_w6 2 = .ok (.iload_n 2, 1) := dk_28 (dk_at dksX2_w6_0 2 rfl rfl)
theorem dX2_w6_3 : decode cX2_w6 3 = .ok (.iload_n 3, 1) := dk_29 (dk_at dksX2_w6_0 3 rfl rfl)
theorem dX2_w6_4 : decode cX2_w6 4 = .ok (.iload 4, 2) := dk_21 4 (dk_at dksX2_w6_0 4 rfl rfl)
theorem dX2_w6_6 : decode cX2_w6 6 = .ok (.invokestatic 150, 3) := dk_184 0 150 (dk_at dksX2_w6_0 6 rfl rfl)
theorem dX2_w6_9 : decode cX2_w6 9 = .ok (.bipush 8, 2) := dk_16 8 (dk_at dksX2_w6_0 9 rfl rfl)
theorem dX2_w6_11 : decode cX2_w6 11 = .ok (.lshl, 1) := dk_121 (dk_at dksX2_w6_0 11 rfl rfl)
theorem dX2_w6_12 : decode cX2_w6 12 = .ok (.iload 5, 2) := dk_21 5 (dk_at dksX2_w6_0 12 rfl rfl)
theorem dX2_w6_14 : decode cX2_w6 14 = .ok (.i2l, 1) := dk_133 (dk_at dksX2_w6_0 14 rfl rfl)
theorem dX2_w6_15 : decode cX2_w6 15 = .ok (.lor, 1) := dk_129 (dk_at dksX2_w6_0 15 rfl rfl)
theorem dX2_w6_16 : decode cX2_w6 16 = .ok (.lreturn, 1) := dk_173 (dk_at dksX2_w6_0 16 rfl rfl)
def dkwX2_w5_0 : List UInt8 := [26, 27, 28, 184, 0, 146, 16, 8, 121, 29, 133, 129, 16, 8, 121, 21, 4, 133, 129, 173]
abbrev dktX2_w5_0 : List UInt8 := dkwX2_w5_0 ++ []
theorem dksX2_w5_0 : cX2_w5.data.toList.drop 0 = dktX2_w5_0 := by decide +kernel
theorem dX2_w5_0 : decode cX2_w5 0 = .ok (.iload_n 0, 1) := dk_26 (dk_at dksX2_w5_0 0 rfl rfl)
theorem dX2_w5_1 : decode cX2_w5 1 = .ok (.iload_n 1, 1) := dk_27 (dk_at dksX2_w5_0 1 rfl rfl)
theorem dX2_w5_2 : decode cX2_w5 2 = .ok (.iload_n 2, 1) := dk_28 (dk_at dksX2_w5_0 2 rfl rfl)
theorem dX2_w5_3 : decode cX2_w5 3 = .ok (.invokestatic 146, 3) := dk_184 0 146 (dk_at dksX2_w5_0 3 rfl rfl)
theorem dX2_w5_6 : decode cX2_w5 6 = .ok (.bipush 8, 2) := dk_16 8 (dk_at dksX2_w5_0 6 rfl rfl)
theorem dX2_w5_8 : decode cX2_w5 8 = .ok (.lshl, 1) := dk_121 (dk_at dksX2_w5_0 8 rfl rfl)
theorem dX2_w5_9 : decode cX2_w5 9 = .ok (.iload_n 3, 1) := dk_29 (dk_at dksX2_w5_0 9 rfl rfl)
theorem dX2_w5_10 : decode cX2_w5 10 = .ok (.i2l, 1) := dk_133 (dk_at dksX2_w5_0 10 rfl rfl)
theorem dX2_w5_11 : decode cX2_w5 11 = .ok (.lor, 1) := dk_129 (dk_at dksX2_w5_0 11 rfl rfl)
theorem dX2_w5_12 : decode cX2_w5 12 = .ok (.bipush 8, 2) := dk_16 8 (dk_at dksX2_w5_0 12 rfl rfl)
theorem dX2_w5_14 : decode cX2_w5 14 = .ok (.lshl, 1) := dk_121 (dk_at dksX2_w5_0 14 rfl rfl)
theorem dX2_w5_15 : decode cX2_w5 15 = .ok (.iload 4, 2) := dk_21 4 (dk_at dksX2_w5_0 15 rfl rfl)
theorem dX2_w5_17 : decode cX2_w5 17 = .ok (.i2l, 1) := dk_133 (dk_at dksX2_w5_0 17 rfl rfl)
theorem dX2_w5_18 : decode cX2_w5 18 = .ok (.lor, 1) := dk_129 (dk_at dksX2_w5_0 18 rfl rfl)
theorem dX2_w5_19 : decode cX2_w5 19 = .ok (.lreturn, 1) := dk_173 (dk_at dksX2_w5_0 19 rfl rfl)
def dkwX2_done_5 : List UInt8 := [160, 0, 8, 16, 15, 167, 0, 5, 16, 9, 182, 0, 233, 172]
abbrev dktX2_done_5 : List UInt8 := dkwX2_done_5 ++ []
def dkwX2_done_4 : List UInt8 := [42, 182, 0, 241, 182, 0, 237, 62, 29, 153, 0, 7, 29, 167, 0, 23, 42, 27, 5, 96, 3, 28, 8]
abbrev dktX2_done_4 : List UInt8 := dkwX2_done_4 ++ dktX2_done_5
def dkwX2_done_3 : List UInt8 := [42, 28, 8, 160, 0, 21, 42, 16, 119, 16, 105, 16, 116, 16, 104, 184, 0, 173, 182, 0, 216, 167, 0, 7]
abbrev dktX2_done_3 : List UInt8 := dkwX2_done_3 ++ dktX2_done_4
def dkwX2_done_2 : List UInt8 := [167, 0, 5, 16, 99, 182, 0, 233, 172, 42, 27, 4, 96, 3, 16, 15, 182, 0, 233, 62, 29, 154, 0, 35]
abbrev dktX2_done_2 : List UInt8 := dkwX2_done_2 ++ dktX2_done_3
def dkwX2_done_1 : List UInt8 := [16, 7, 159, 0, 9, 28, 16, 8, 160, 0, 25, 42, 27, 4, 96, 3, 28, 16, 7, 160, 0, 8, 16, 9]
abbrev dktX2_done_1 : List UInt8 := dkwX2_done_1 ++ dktX2_done_2
def dkwX2_done_0 : List UInt8 := [28, 6, 160, 0, 9, 42, 27, 182, 0, 244, 172, 28, 7, 160, 0, 9, 42, 27, 182, 0, 247, 172, 28]
abbrev dktX2_done_0 : List UInt8 := dkwX2_done_0 ++ dktX2_done_1
theorem dksX2_done_0 : cX2_done.data.toList.drop 0 = dktX2_done_0 := by decide +kernel
theorem dksX2_done_1 : cX2_done.data.toList.drop 23 = dktX2_done_1 := dk_seg dksX2_done_0 23 rfl rfl
theorem dksX2_done_2 : cX2_done.data.toList.drop 47 = dktX2_done_2 := dk_seg dksX2_done_1 24 rfl rfl
theorem dksX2_done_3 : cX2_done.data.toList.drop 71 = dktX2_done_3 := dk_seg dksX2_done_2 24 rfl rfl
theorem dksX2_done_4 : cX2_done.data.toList.drop 95 = dktX2_done_4 := dk_seg dksX2_done_3 24 rfl rfl
theorem dksX2_done_5 : cX2_done.data.toList.drop 118 = dktX2_done_5 := dk_seg dksX2_done_4 23 rfl rfl
theorem dX2_done_0 : decode cX2_done 0 = .ok (.iload_n 2, 1) := dk_28 (dk_at dksX2_done_0 0 rfl rfl)
theorem dX2_done_1 : decode cX2_done 1 = .ok (.iconst 3, 1) := dk_6 (dk_at dksX2_done_0 1 rfl rfl)
theorem dX2_done_2 : decode cX2_done 2 = .ok (.if_icmp .ne 9, 3) := dk_160 0 9 (dk_at dksX2_done_0 2 rfl rfl)
theorem dX2_done_5 : decode cX2_done 5 = .ok (.aload_n 0, 1) := dk_42 (dk_at dksX2_done_0 5 rfl rfl)
theorem dX2_done_6 : decode cX2_done 6 = .ok (.iload_n 1, 1) := dk_27 (dk_at dksX2_done_0 6 rfl rfl)
theorem dX2_done_7 : decode cX2_done 7 = .ok (.invokevirtual 244, 3) := dk_182 0 244 (dk_at dksX2_done_0 7 rfl rfl)
theorem dX2_done_10 : decode cX2_done 10 = .ok (.ireturn, 1) := dk_172 (dk_at dksX2_done_0 10 rfl rfl)
theorem dX2_done_11 : decode cX2_done 11 = .ok (.iload_n 2, 1) := dk_28 (dk_at dksX2_done_0 11 rfl rfl)
theorem dX2_done_12 : decode cX2_done 12 = .ok (.iconst 4, 1) := dk_7 (dk_at dksX2_done_0 12 rfl rfl)
theorem dX2_done_13 : decode cX2_done 13 = .ok (.if_icmp .ne 9, 3) := dk_160 0 9 (dk_at dksX2_done_0 13 rfl rfl)
theorem dX2_done_16 : decode cX2_done 16 = .ok (.aload_n 0, 1) := dk_42 (dk_at dksX2_done_0 16 rfl rfl)
theorem dX2_done_17 : decode cX2_done 17 = .ok (.iload_n 1, 1) := dk_27 (dk_at dksX2_done_0 17 rfl rfl)
theorem dX2_done_18 : decode cX2_done 18 = .ok (.invokevirtual 247, 3) := dk_182 0 247 (dk_at dksX2_done_0 18 rfl rfl)
theorem dX2_done_21 : decode cX2_done 21 = .ok (.ireturn, 1) := dk_172 (dk_at dksX2_done_0 21 rfl rfl)
theorem dX2_done_22 : decode cX2_done 22 = .ok (.iload_n 2, 1) := dk_28 (dk_at dksX2_done_0 22 rfl rfl)
theorem dX2_done_23 : decode cX2_done 23 = .ok (.bipush 7, 2) := dk_16 7 (dk_at dksX2_done_1 0 rfl rfl)
theorem dX2_done_25 : decode cX2_done 25 = .ok (.if_icmp .eq 9, 3) := dk_159 0 9 (dk_at dksX2_done_1 2 rfl rfl)
theorem dX2_done_28 : decode cX2_done 28 = .ok (.iload_n 2, 1) := dk_28 (dk_at dksX2_done_1 5 rfl rfl)
theorem dX2_done_29 : decode cX2_done 29 = .ok (.bipush 8, 2) := dk_16 8 (dk_at dksX2_done_1 6 rfl rfl)
theorem dX2_done_31 : decode cX2_done 31 = .ok (.if_icmp .ne 25, 3) := dk_160 0 25 (dk_at dksX2_done_1 8 rfl rfl)
theorem dX2_done_34 : decode cX2_done 34 = .ok (.aload_n 0, 1) := dk_42 (dk_at dksX2_done_1 11 rfl rfl)
theorem dX2_done_35 : decode cX2_done 35 = .ok (.iload_n 1, 1) := dk_27 (dk_at dksX2_done_1 12 rfl rfl)
theorem dX2_done_36 : decode cX2_done 36 = .ok (.iconst 1, 1) := dk_4 (dk_at dksX2_done_1 13 rfl rfl)
theorem dX2_done_37 : decode cX2_done 37 = .ok (.iadd, 1) := dk_96 (dk_at dksX2_done_1 14 rfl rfl)
theorem dX2_done_38 : decode cX2_done 38 = .ok (.iconst 0, 1) := dk_3 (dk_at dksX2_done_1 15 rfl rfl)
theorem dX2_done_39 : decode cX2_done 39 = .ok (.iload_n 2, 1) := dk_28 (dk_at dksX2_done_1 16 rfl rfl)
theorem dX2_done_40 : decode cX2_done 40 = .ok (.bipush 7, 2) := dk_16 7 (dk_at dksX2_done_1 17 rfl rfl)
theorem dX2_done_42 : decode cX2_done 42 = .ok (.if_icmp .ne 8, 3) := dk_160 0 8 (dk_at dksX2_done_1 19 rfl rfl)
theorem dX2_done_45 : decode cX2_done 45 = .ok (.bipush 9, 2) := dk_16 9 (dk_at dksX2_done_1 22 rfl rfl)
theorem dX2_done_47 : decode cX2_done 47 = .ok (.goto 5, 3) := dk_167 0 5 (dk_at dksX2_done_2 0 rfl rfl)
theorem dX2_done_50 : decode cX2_done 50 = .ok (.bipush 99, 2) := dk_16 99 (dk_at dksX2_done_2 3 rfl rfl)
theorem dX2_done_52 : decode cX2_done 52 = .ok (.invokevirtual 233, 3) := dk_182 0 233 (dk_at dksX2_done_2 5 rfl rfl)
theorem dX2_done_55 : decode cX2_done 55 = .ok (.ireturn, 1) := dk_172 (dk_at dksX2_done_2 8 rfl rfl)
theorem dX2_done_56 : decode cX2_done 56 = .ok (.aload_n 0, 1) := dk_42 (dk_at dksX2_done_2 9 rfl rfl)
theorem dX2_done_57 : decode cX2_done 57 = .ok (.iload_n 1, 1) := dk_27 (dk_at dksX2_done_2 10 rfl rfl)
theorem dX2_done_58 : decode cX2_done 58 = .ok (.iconst 1, 1) := dk_4 (dk_at dksX2_done_2 11 rfl rfl)
theorem dX2_done_59 : decode cX2_done 59 = .ok (.iadd, 1) := dk_96 (dk_at dksX2_done_2 12 rfl rfl)
theorem dX2_done_60 : decode cX2_done 60 = .ok (.iconst 0, 1) := dk_3 (dk_at dksX2_done_2 13 rfl rfl)
theorem dX2_done_61 : decode cX2_done 61 = .ok (.bipush 15, 2) := dk_16 15 (dk_at dksX2_done_2 14 rfl rfl)
theorem dX2_done_63 : decode cX2_done 63 = .ok (.invokevirtual 233, 3) := dk_182 0 233 (dk_at dksX2_done_2 16 rfl rfl)
theorem dX2_done_66 : decode cX2_done 66 = .ok (.istore_n 3, 1) := dk_62 (dk_at dksX2_done_2 19 rfl rfl)
theorem dX2_done_67 : decode cX2_done 67 = .ok (.iload_n 3, 1) := dk_29 (dk_at dksX2_done_2 20 rfl rfl)
theorem dX2_done_68 : decode cX2_done 68 = .ok (.ifCond .ne 35, 3) := dk_154 0 35 (dk_at dksX2_done_2 21 rfl rfl)
theorem dX2_done_71 : decode cX2_done 71 = .ok (.aload_n 0, 1) := dk_42 (dk_at dksX2_done_3 0 rfl rfl)
theorem dX2_done_72 : decode cX2_done 72 = .ok (.iload_n 2, 1) := dk_28 (dk_at dksX2_done_3 1 rfl rfl)
theorem dX2_done_73 : decode cX2_done 73 = .ok (.iconst 5, 1) := dk_8 (dk_at dksX2_done_3 2 rfl rfl)
theorem dX2_done_74 : decode cX2_done 74 = .ok (.if_icmp .ne 21, 3) := dk_160 0 21 (dk_at dksX2_done_3 3 rfl rfl)
theorem dX2_done_77 : decode cX2_done 77 = .ok (.aload_n 0, 1) := dk_42 (dk_at dksX2_done_3 6 rfl rfl)
theorem dX2_done_78 : decode cX2_done 78 = .ok (.bipush 119, 2) := dk_16 119 (dk_at dksX2_done_3 7 rfl rfl)
theorem dX2_done_80 : decode cX2_done 80 = .ok (.bipush 105, 2) := dk_16 105 (dk_at dksX2_done_3 9 rfl rfl)
theorem dX2_done_82 : decode cX2_done 82 = .ok (.bipush 116, 2) := dk_16 116 (dk_at dksX2_done_3 11 rfl rfl)
theorem dX2_done_84 : decode cX2_done 84 = .ok (.bipush 104, 2) := dk_16 104 (dk_at dksX2_done_3 13 rfl rfl)
theorem dX2_done_86 : decode cX2_done 86 = .ok (.invokestatic 173, 3) := dk_184 0 173 (dk_at dksX2_done_3 15 rfl rfl)
theorem dX2_done_89 : decode cX2_done 89 = .ok (.invokevirtual 216, 3) := dk_182 0 216 (dk_at dksX2_done_3 18 rfl rfl)
theorem dX2_done_92 : decode cX2_done 92 = .ok (.goto 7, 3) := dk_167 0 7 (dk_at dksX2_done_3 21 rfl rfl)
theorem dX2_done_95 : decode cX2_done 95 = .ok (.aload_n 0, 1) := dk_42 (dk_at dksX2_done_4 0 rfl rfl)
theorem dX2_done_96 : decode cX2_done 96 = .ok (.invokevirtual 241, 3) := dk_182 0 241 (dk_at dksX2_done_4 1 rfl rfl)
theorem dX2_done_99 : decode cX2_done 99 = .ok (.invokevirtual 237, 3) := dk_182 0 237 (dk_at dksX2_done_4 4 rfl rfl)
theorem dX2_done_102 : decode cX2_done 102 = .ok (.istore_n 3, 1) := dk_62 (dk_at dksX2_done_4 7 rfl rfl)
theorem dX2_done_103 : decode cX2_done 103 = .ok (.iload_n 3, 1) := dk_29 (dk_at dksX2_done_4 8 rfl rfl)
theorem dX2_done_104 : decode cX2_done 104 = .ok (.ifCond .eq 7, 3) := dk_153 0 7 (dk_at dksX2_done_4 9 rfl rfl)
theorem dX2_done_107 : decode cX2_done 107 = .ok (.iload_n 3, 1) := dk_29 (dk_at dksX2_done_4 12 rfl rfl)
theorem dX2_done_108 : decode cX2_done 108 = .ok (.goto 23, 3) := dk_167 0 23 (dk_at dksX2_done_4 13 rfl rfl)
theorem dX2_done_111 : decode cX2_done 111 = .ok (.aload_n 0, 1) := dk_42 (dk_at dksX2_done_4 16 rfl rfl)
theorem dX2_done_112 : decode cX2_done 112 = .ok (.iload_n 1, 1) := dk_27 (dk_at dksX2_done_4 17 rfl rfl)
theorem dX2_done_113 : decode cX2_done 113 = .ok (.iconst 2, 1) := dk_5 (dk_at dksX2_done_4 18 rfl rfl)
theorem dX2_done_114 : decode cX2_done 114 = .ok (.iadd, 1) := dk_96 (dk_at dksX2_done_4 19 rfl rfl)
theorem dX2_done_115 : decode cX2_done 115 = .ok (.iconst 0, 1) := dk_3 (dk_at dksX2_done_4 20 rfl rfl)
theorem dX2_done_116 : decode cX2_done 116 = .ok (.iload_n 2, 1) := dk_28 (dk_at dksX2_done_4 21 rfl rfl)
theorem dX2_done_117 : decode cX2_done 117 = .ok (.iconst 5, 1) := dk_8 (dk_at dksX2_done_4 22 rfl rfl)
theorem dX2_done_118 : decode cX2_done 118 = .ok (.if_icmp .ne 8, 3) := dk_160 0 8 (dk_at dksX2_done_5 0 rfl rfl)
theorem dX2_done_121 : decode cX2_done 121 = .ok (.bipush 15, 2) := dk_16 15 (dk_at dksX2_done_5 3 rfl rfl)
theorem dX2_done_123 : decode cX2_done 123 = .ok (.goto 5, 3) := dk_167 0 5 (dk_at dksX2_done_5 5 rfl rfl)
theorem dX2_done_126 : decode cX2_done 126 = .ok (.bipush 9, 2) := dk_16 9 (dk_at dksX2_done_5 8 rfl rfl)
theorem dX2_done_128 : decode cX2_done 128 = .ok (.invokevirtual 233, 3) := dk_182 0 233 (dk_at dksX2_done_5 10 rfl rfl)
theorem dX2_done_131 : decode cX2_done 131 = .ok (.ireturn, 1) := dk_172 (dk_at dksX2_done_5 13 rfl rfl)
def dkwX2_kind_5 : List UInt8 := [61, 28, 153, 0, 7, 28, 167, 0, 13, 42, 27, 5, 96, 4, 16, 9, 182, 0, 233, 172]
abbrev dktX2_kind_5 : List UInt8 := dkwX2_kind_5 ++ []
def dkwX2_kind_4 : List UInt8 := [61, 28, 154, 0, 23, 42, 42, 16, 109, 16, 97, 16, 110, 16, 121, 184, 0, 173, 182, 0, 216, 182, 0, 237]
abbrev dktX2_kind_4 : List UInt8 := dkwX2_kind_4 ++ dktX2_kind_5
def dkwX2_kind_3 : List UInt8 := [180, 0, 135, 160, 0, 5, 7, 172, 132, 2, 1, 167, 255, 197, 42, 27, 4, 96, 3, 16, 19, 182, 0, 233]
abbrev dktX2_kind_3 : List UInt8 := dkwX2_kind_3 ++ dktX2_kind_4
def dkwX2_kind_2 : List UInt8 := [104, 96, 46, 6, 160, 0, 27, 42, 180, 0, 16, 42, 180, 0, 154, 5, 96, 7, 28, 104, 96, 46, 42]
abbrev dktX2_kind_2 : List UInt8 := dkwX2_kind_2 ++ dktX2_kind_3
def dkwX2_kind_1 : List UInt8 := [42, 180, 0, 16, 42, 180, 0, 154, 46, 162, 0, 52, 42, 180, 0, 16, 42, 180, 0, 154, 4, 96, 7, 28]
abbrev dktX2_kind_1 : List UInt8 := dkwX2_kind_1 ++ dktX2_kind_2
def dkwX2_kind_0 : List UInt8 := [42, 180, 0, 129, 4, 160, 0, 80, 42, 180, 0, 135, 3, 16, 19, 184, 0, 75, 153, 0, 67, 3, 61, 28]
abbrev dktX2_kind_0 : List UInt8 := dkwX2_kind_0 ++ dktX2_kind_1
theorem dksX2_kind_0 : cX2_kind.data.toList.drop 0 = dktX2_kind_0 := by decide +kernel
theorem dksX2_kind_1 : cX2_kind.data.toList.drop 24 = dktX2_kind_1 := dk_seg dksX2_kind_0 24 rfl rfl
theorem dksX2_kind_2 : cX2_kind.data.toList.drop 48 = dktX2_kind_2 := dk_seg dksX2_kind_1 24 rfl rfl
theorem dksX2_kind_3 : cX2_kind.data.toList.drop 71 = dktX2_kind_3 := dk_seg dksX2_kind_2 23 rfl rfl
theorem dksX2_kind_4 : cX2_kind.data.toList.drop 95 = dktX2_kind_4 := dk_seg dksX2_kind_3 24 rfl rfl
theorem dksX2_kind_5 : cX2_kind.data.toList.drop 119 = dktX2_kind_5 := dk_seg dksX2_kind_4 24 rfl rfl
theorem dX2_kind_0 : decode cX2_kind 0 = .ok (.aload_n 0, 1) := dk_42 (dk_at dksX2_kind_0 0 rfl rfl)
theorem dX2_kind_1 : decode cX2_kind 1 = .ok (.getfield 129, 3) := dk_180 0 129 (dk_at dksX2_kind_0 1 rfl rfl)
theorem dX2_kind_4 : decode cX2_kind 4 = .ok (.iconst 1, 1) := dk_4 (dk_at dksX2_kind_0 4 rfl rfl)
theorem dX2_kind_5 : decode cX2_kind 5 = .ok (.if_icmp .ne 80, 3) := dk_160 0 80 (dk_at dksX2_kind_0 5 rfl rfl)
theorem dX2_kind_8 : decode cX2_kind 8 = .ok (.aload_n 0, 1) := dk_42 (dk_at dksX2_kind_0 8 rfl rfl)
theorem dX2_kind_9 : decode cX2_kind 9 = .ok (.getfield 135, 3) := dk_180 0 135 (dk_at dksX2_kind_0 9 rfl rfl)
theorem dX2_kind_12 : decode cX2_kind 12 = .ok (.iconst 0, 1) := dk_3 (dk_at dksX2_kind_0 12 rfl rfl)
theorem dX2_kind_13 : decode cX2_kind 13 = .ok (.bipush 19, 2) := dk_16 19 (dk_at dksX2_kind_0 13 rfl rfl)
theorem dX2_kind_15 : decode cX2_kind 15 = .ok (.invokestatic 75, 3) := dk_184 0 75 (dk_at dksX2_kind_0 15 rfl rfl)
theorem dX2_kind_18 : decode cX2_kind 18 = .ok (.ifCond .eq 67, 3) := dk_153 0 67 (dk_at dksX2_kind_0 18 rfl rfl)
theorem dX2_kind_21 : decode cX2_kind 21 = .ok (.iconst 0, 1) := dk_3 (dk_at dksX2_kind_0 21 rfl rfl)
theorem dX2_kind_22 : decode cX2_kind 22 = .ok (.istore_n 2, 1) := dk_61 (dk_at dksX2_kind_0 22 rfl rfl)
theorem dX2_kind_23 : decode cX2_kind 23 = .ok (.iload_n 2, 1) := dk_28 (dk_at dksX2_kind_0 23 rfl rfl)
theorem dX2_kind_24 : decode cX2_kind 24 = .ok (.aload_n 0, 1) := dk_42 (dk_at dksX2_kind_1 0 rfl rfl)
theorem dX2_kind_25 : decode cX2_kind 25 = .ok (.getfield 16, 3) := dk_180 0 16 (dk_at dksX2_kind_1 1 rfl rfl)
theorem dX2_kind_28 : decode cX2_kind 28 = .ok (.aload_n 0, 1) := dk_42 (dk_at dksX2_kind_1 4 rfl rfl)
theorem dX2_kind_29 : decode cX2_kind 29 = .ok (.getfield 154, 3) := dk_180 0 154 (dk_at dksX2_kind_1 5 rfl rfl)
theorem dX2_kind_32 : decode cX2_kind 32 = .ok (.iaload, 1) := dk_46 (dk_at dksX2_kind_1 8 rfl rfl)
theorem dX2_kind_33 : decode cX2_kind 33 = .ok (.if_icmp .ge 52, 3) := dk_162 0 52 (dk_at dksX2_kind_1 9 rfl rfl)
theorem dX2_kind_36 : decode cX2_kind 36 = .ok (.aload_n 0, 1) := dk_42 (dk_at dksX2_kind_1 12 rfl rfl)
theorem dX2_kind_37 : decode cX2_kind 37 = .ok (.getfield 16, 3) := dk_180 0 16 (dk_at dksX2_kind_1 13 rfl rfl)
theorem dX2_kind_40 : decode cX2_kind 40 = .ok (.aload_n 0, 1) := dk_42 (dk_at dksX2_kind_1 16 rfl rfl)
theorem dX2_kind_41 : decode cX2_kind 41 = .ok (.getfield 154, 3) := dk_180 0 154 (dk_at dksX2_kind_1 17 rfl rfl)
theorem dX2_kind_44 : decode cX2_kind 44 = .ok (.iconst 1, 1) := dk_4 (dk_at dksX2_kind_1 20 rfl rfl)
theorem dX2_kind_45 : decode cX2_kind 45 = .ok (.iadd, 1) := dk_96 (dk_at dksX2_kind_1 21 rfl rfl)
theorem dX2_kind_46 : decode cX2_kind 46 = .ok (.iconst 4, 1) := dk_7 (dk_at dksX2_kind_1 22 rfl rfl)
theorem dX2_kind_47 : decode cX2_kind 47 = .ok (.iload_n 2, 1) := dk_28 (dk_at dksX2_kind_1 23 rfl rfl)
theorem dX2_kind_48 : decode cX2_kind 48 = .ok (.imul, 1) := dk_104 (dk_at dksX2_kind_2 0 rfl rfl)
theorem dX2_kind_49 : decode cX2_kind 49 = .ok (.iadd, 1) := dk_96 (dk_at dksX2_kind_2 1 rfl rfl)
theorem dX2_kind_50 : decode cX2_kind 50 = .ok (.iaload, 1) := dk_46 (dk_at dksX2_kind_2 2 rfl rfl)
theorem dX2_kind_51 : decode cX2_kind 51 = .ok (.iconst 3, 1) := dk_6 (dk_at dksX2_kind_2 3 rfl rfl)
theorem dX2_kind_52 : decode cX2_kind 52 = .ok (.if_icmp .ne 27, 3) := dk_160 0 27 (dk_at dksX2_kind_2 4 rfl rfl)
theorem dX2_kind_55 : decode cX2_kind 55 = .ok (.aload_n 0, 1) := dk_42 (dk_at dksX2_kind_2 7 rfl rfl)
theorem dX2_kind_56 : decode cX2_kind 56 = .ok (.getfield 16, 3) := dk_180 0 16 (dk_at dksX2_kind_2 8 rfl rfl)
theorem dX2_kind_59 : decode cX2_kind 59 = .ok (.aload_n 0, 1) := dk_42 (dk_at dksX2_kind_2 11 rfl rfl)
theorem dX2_kind_60 : decode cX2_kind 60 = .ok (.getfield 154, 3) := dk_180 0 154 (dk_at dksX2_kind_2 12 rfl rfl)
theorem dX2_kind_63 : decode cX2_kind 63 = .ok (.iconst 2, 1) := dk_5 (dk_at dksX2_kind_2 15 rfl rfl)
theorem dX2_kind_64 : decode cX2_kind 64 = .ok (.iadd, 1) := dk_96 (dk_at dksX2_kind_2 16 rfl rfl)
theorem dX2_kind_65 : decode cX2_kind 65 = .ok (.iconst 4, 1) := dk_7 (dk_at dksX2_kind_2 17 rfl rfl)
theorem dX2_kind_66 : decode cX2_kind 66 = .ok (.iload_n 2, 1) := dk_28 (dk_at dksX2_kind_2 18 rfl rfl)
theorem dX2_kind_67 : decode cX2_kind 67 = .ok (.imul, 1) := dk_104 (dk_at dksX2_kind_2 19 rfl rfl)
theorem dX2_kind_68 : decode cX2_kind 68 = .ok (.iadd, 1) := dk_96 (dk_at dksX2_kind_2 20 rfl rfl)
theorem dX2_kind_69 : decode cX2_kind 69 = .ok (.iaload, 1) := dk_46 (dk_at dksX2_kind_2 21 rfl rfl)
theorem dX2_kind_70 : decode cX2_kind 70 = .ok (.aload_n 0, 1) := dk_42 (dk_at dksX2_kind_2 22 rfl rfl)
theorem dX2_kind_71 : decode cX2_kind 71 = .ok (.getfield 135, 3) := dk_180 0 135 (dk_at dksX2_kind_3 0 rfl rfl)
theorem dX2_kind_74 : decode cX2_kind 74 = .ok (.if_icmp .ne 5, 3) := dk_160 0 5 (dk_at dksX2_kind_3 3 rfl rfl)
theorem dX2_kind_77 : decode cX2_kind 77 = .ok (.iconst 4, 1) := dk_7 (dk_at dksX2_kind_3 6 rfl rfl)
theorem dX2_kind_78 : decode cX2_kind 78 = .ok (.ireturn, 1) := dk_172 (dk_at dksX2_kind_3 7 rfl rfl)
theorem dX2_kind_79 : decode cX2_kind 79 = .ok (.iinc 2 1, 3) := dk_132 2 1 (dk_at dksX2_kind_3 8 rfl rfl)
theorem dX2_kind_82 : decode cX2_kind 82 = .ok (.goto (-59), 3) := dk_167 255 197 (dk_at dksX2_kind_3 11 rfl rfl)
theorem dX2_kind_85 : decode cX2_kind 85 = .ok (.aload_n 0, 1) := dk_42 (dk_at dksX2_kind_3 14 rfl rfl)
theorem dX2_kind_86 : decode cX2_kind 86 = .ok (.iload_n 1, 1) := dk_27 (dk_at dksX2_kind_3 15 rfl rfl)
theorem dX2_kind_87 : decode cX2_kind 87 = .ok (.iconst 1, 1) := dk_4 (dk_at dksX2_kind_3 16 rfl rfl)
theorem dX2_kind_88 : decode cX2_kind 88 = .ok (.iadd, 1) := dk_96 (dk_at dksX2_kind_3 17 rfl rfl)
theorem dX2_kind_89 : decode cX2_kind 89 = .ok (.iconst 0, 1) := dk_3 (dk_at dksX2_kind_3 18 rfl rfl)
theorem dX2_kind_90 : decode cX2_kind 90 = .ok (.bipush 19, 2) := dk_16 19 (dk_at dksX2_kind_3 19 rfl rfl)
theorem dX2_kind_92 : decode cX2_kind 92 = .ok (.invokevirtual 233, 3) := dk_182 0 233 (dk_at dksX2_kind_3 21 rfl rfl)
theorem dX2_kind_95 : decode cX2_kind 95 = .ok (.istore_n 2, 1) := dk_61 (dk_at dksX2_kind_4 0 rfl rfl)
theorem dX2_kind_96 : decode cX2_kind 96 = .ok (.iload_n 2, 1) := dk_28 (dk_at dksX2_kind_4 1 rfl rfl)
theorem dX2_kind_97 : decode cX2_kind 97 = .ok (.ifCond .ne 23, 3) := dk_154 0 23 (dk_at dksX2_kind_4 2 rfl rfl)
theorem dX2_kind_100 : decode cX2_kind 100 = .ok (.aload_n 0, 1) := dk_42 (dk_at dksX2_kind_4 5 rfl rfl)
theorem dX2_kind_101 : decode cX2_kind 101 = .ok (.aload_n 0, 1) := dk_42 (dk_at dksX2_kind_4 6 rfl rfl)
theorem dX2_kind_102 : decode cX2_kind 102 = .ok (.bipush 109, 2) := dk_16 109 (dk_at dksX2_kind_4 7 rfl rfl)
theorem dX2_kind_104 : decode cX2_kind 104 = .ok (.bipush 97, 2) := dk_16 97 (dk_at dksX2_kind_4 9 rfl rfl)
theorem dX2_kind_106 : decode cX2_kind 106 = .ok (.bipush 110, 2) := dk_16 110 (dk_at dksX2_kind_4 11 rfl rfl)
theorem dX2_kind_108 : decode cX2_kind 108 = .ok (.bipush 121, 2) := dk_16 121 (dk_at dksX2_kind_4 13 rfl rfl)
theorem dX2_kind_110 : decode cX2_kind 110 = .ok (.invokestatic 173, 3) := dk_184 0 173 (dk_at dksX2_kind_4 15 rfl rfl)
theorem dX2_kind_113 : decode cX2_kind 113 = .ok (.invokevirtual 216, 3) := dk_182 0 216 (dk_at dksX2_kind_4 18 rfl rfl)
theorem dX2_kind_116 : decode cX2_kind 116 = .ok (.invokevirtual 237, 3) := dk_182 0 237 (dk_at dksX2_kind_4 21 rfl rfl)
theorem dX2_kind_119 : decode cX2_kind 119 = .ok (.istore_n 2, 1) := dk_61 (dk_at dksX2_kind_5 0 rfl rfl)
theorem dX2_kind_120 : decode cX2_kind 120 = .ok (.iload_n 2, 1) := dk_28 (dk_at dksX2_kind_5 1 rfl rfl)
theorem dX2_kind_121 : decode cX2_kind 121 = .ok (.ifCond .eq 7, 3) := dk_153 0 7 (dk_at dksX2_kind_5 2 rfl rfl)
theorem dX2_kind_124 : decode cX2_kind 124 = .ok (.iload_n 2, 1) := dk_28 (dk_at dksX2_kind_5 5 rfl rfl)
theorem dX2_kind_125 : decode cX2_kind 125 = .ok (.goto 13, 3) := dk_167 0 13 (dk_at dksX2_kind_5 6 rfl rfl)
theorem dX2_kind_128 : decode cX2_kind 128 = .ok (.aload_n 0, 1) := dk_42 (dk_at dksX2_kind_5 9 rfl rfl)
theorem dX2_kind_129 : decode cX2_kind 129 = .ok (.iload_n 1, 1) := dk_27 (dk_at dksX2_kind_5 10 rfl rfl)
theorem dX2_kind_130 : decode cX2_kind 130 = .ok (.iconst 2, 1) := dk_5 (dk_at dksX2_kind_5 11 rfl rfl)
theorem dX2_kind_131 : decode cX2_kind 131 = .ok (.iadd, 1) := dk_96 (dk_at dksX2_kind_5 12 rfl rfl)
theorem dX2_kind_132 : decode cX2_kind 132 = .ok (.iconst 1, 1) := dk_4 (dk_at dksX2_kind_5 13 rfl rfl)
theorem dX2_kind_133 : decode cX2_kind 133 = .ok (.bipush 9, 2) := dk_16 9 (dk_at dksX2_kind_5 14 rfl rfl)
theorem dX2_kind_135 : decode cX2_kind 135 = .ok (.invokevirtual 233, 3) := dk_182 0 233 (dk_at dksX2_kind_5 16 rfl rfl)
theorem dX2_kind_138 : decode cX2_kind 138 = .ok (.ireturn, 1) := dk_172 (dk_at dksX2_kind_5 19 rfl rfl)
def dkwX2_figure_1 : List UInt8 := [42, 180, 0, 16, 27, 42, 180, 0, 135, 79, 42, 182, 0, 184, 3, 172]
abbrev dktX2_figure_1 : List UInt8 := dkwX2_figure_1 ++ []
def dkwX2_figure_0 : List UInt8 := [42, 180, 0, 129, 4, 159, 0, 5, 4, 172, 42, 180, 0, 135, 28, 29, 184, 0, 75, 154, 0, 5, 5, 172]
abbrev dktX2_figure_0 : List UInt8 := dkwX2_figure_0 ++ dktX2_figure_1
theorem dksX2_figure_0 : cX2_figure.data.toList.drop 0 = dktX2_figure_0 := by decide +kernel
theorem dksX2_figure_1 : cX2_figure.data.toList.drop 24 = dktX2_figure_1 := dk_seg dksX2_figure_0 24 rfl rfl
theorem dX2_figure_0 : decode cX2_figure 0 = .ok (.aload_n 0, 1) := dk_42 (dk_at dksX2_figure_0 0 rfl rfl)
theorem dX2_figure_1 : decode cX2_figure 1 = .ok (.getfield 129, 3) := dk_180 0 129 (dk_at dksX2_figure_0 1 rfl rfl)
theorem dX2_figure_4 : decode cX2_figure 4 = .ok (.iconst 1, 1) := dk_4 (dk_at dksX2_figure_0 4 rfl rfl)
theorem dX2_figure_5 : decode cX2_figure 5 = .ok (.if_icmp .eq 5, 3) := dk_159 0 5 (dk_at dksX2_figure_0 5 rfl rfl)
theorem dX2_figure_8 : decode cX2_figure 8 = .ok (.iconst 1, 1) := dk_4 (dk_at dksX2_figure_0 8 rfl rfl)
theorem dX2_figure_9 : decode cX2_figure 9 = .ok (.ireturn, 1) := dk_172 (dk_at dksX2_figure_0 9 rfl rfl)
theorem dX2_figure_10 : decode cX2_figure 10 = .ok (.aload_n 0, 1) := dk_42 (dk_at dksX2_figure_0 10 rfl rfl)
theorem dX2_figure_11 : decode cX2_figure 11 = .ok (.getfield 135, 3) := dk_180 0 135 (dk_at dksX2_figure_0 11 rfl rfl)
theorem dX2_figure_14 : decode cX2_figure 14 = .ok (.iload_n 2, 1) := dk_28 (dk_at dksX2_figure_0 14 rfl rfl)
theorem dX2_figure_15 : decode cX2_figure 15 = .ok (.iload_n 3, 1) := dk_29 (dk_at dksX2_figure_0 15 rfl rfl)
theorem dX2_figure_16 : decode cX2_figure 16 = .ok (.invokestatic 75, 3) := dk_184 0 75 (dk_at dksX2_figure_0 16 rfl rfl)
theorem dX2_figure_19 : decode cX2_figure 19 = .ok (.ifCond .ne 5, 3) := dk_154 0 5 (dk_at dksX2_figure_0 19 rfl rfl)
theorem dX2_figure_22 : decode cX2_figure 22 = .ok (.iconst 2, 1) := dk_5 (dk_at dksX2_figure_0 22 rfl rfl)
theorem dX2_figure_23 : decode cX2_figure 23 = .ok (.ireturn, 1) := dk_172 (dk_at dksX2_figure_0 23 rfl rfl)
theorem dX2_figure_24 : decode cX2_figure 24 = .ok (.aload_n 0, 1) := dk_42 (dk_at dksX2_figure_1 0 rfl rfl)
theorem dX2_figure_25 : decode cX2_figure 25 = .ok (.getfield 16, 3) := dk_180 0 16 (dk_at dksX2_figure_1 1 rfl rfl)
theorem dX2_figure_28 : decode cX2_figure 28 = .ok (.iload_n 1, 1) := dk_27 (dk_at dksX2_figure_1 4 rfl rfl)
theorem dX2_figure_29 : decode cX2_figure 29 = .ok (.aload_n 0, 1) := dk_42 (dk_at dksX2_figure_1 5 rfl rfl)
theorem dX2_figure_30 : decode cX2_figure 30 = .ok (.getfield 135, 3) := dk_180 0 135 (dk_at dksX2_figure_1 6 rfl rfl)
theorem dX2_figure_33 : decode cX2_figure 33 = .ok (.iastore, 1) := dk_79 (dk_at dksX2_figure_1 9 rfl rfl)
theorem dX2_figure_34 : decode cX2_figure 34 = .ok (.aload_n 0, 1) := dk_42 (dk_at dksX2_figure_1 10 rfl rfl)
theorem dX2_figure_35 : decode cX2_figure 35 = .ok (.invokevirtual 184, 3) := dk_182 0 184 (dk_at dksX2_figure_1 11 rfl rfl)
theorem dX2_figure_38 : decode cX2_figure 38 = .ok (.iconst 0, 1) := dk_3 (dk_at dksX2_figure_1 14 rfl rfl)
theorem dX2_figure_39 : decode cX2_figure 39 = .ok (.ireturn, 1) := dk_172 (dk_at dksX2_figure_1 15 rfl rfl)
def dkwX2_step_0 : List UInt8 := [27, 154, 0, 5, 4, 172, 42, 182, 0, 184, 3, 172]
abbrev dktX2_step_0 : List UInt8 := dkwX2_step_0 ++ []
theorem dksX2_step_0 : cX2_step.data.toList.drop 0 = dktX2_step_0 := by decide +kernel
theorem dX2_step_0 : decode cX2_step 0 = .ok (.iload_n 1, 1) := dk_27 (dk_at dksX2_step_0 0 rfl rfl)
theorem dX2_step_1 : decode cX2_step 1 = .ok (.ifCond .ne 5, 3) := dk_154 0 5 (dk_at dksX2_step_0 1 rfl rfl)
theorem dX2_step_4 : decode cX2_step 4 = .ok (.iconst 1, 1) := dk_4 (dk_at dksX2_step_0 4 rfl rfl)
theorem dX2_step_5 : decode cX2_step 5 = .ok (.ireturn, 1) := dk_172 (dk_at dksX2_step_0 5 rfl rfl)
theorem dX2_step_6 : decode cX2_step 6 = .ok (.aload_n 0, 1) := dk_42 (dk_at dksX2_step_0 6 rfl rfl)
theorem dX2_step_7 : decode cX2_step 7 = .ok (.invokevirtual 184, 3) := dk_182 0 184 (dk_at dksX2_step_0 7 rfl rfl)
theorem dX2_step_10 : decode cX2_step 10 = .ok (.iconst 0, 1) := dk_3 (dk_at dksX2_step_0 10 rfl rfl)
theorem dX2_step_11 : decode cX2_step 11 = .ok (.ireturn, 1) := dk_172 (dk_at dksX2_step_0 11 rfl rfl)
def dkwX2_lent_3 : List UInt8 := [6, 96, 4, 16, 99, 182, 0, 233, 172]
abbrev dktX2_lent_3 : List UInt8 := dkwX2_lent_3 ++ []
def dkwX2_lent_2 : List UInt8 := [16, 111, 16, 114, 184, 0, 146, 182, 0, 216, 182, 0, 237, 61, 28, 153, 0, 7, 28, 167, 0, 13, 42, 27]
abbrev dktX2_lent_2 : List UInt8 := dkwX2_lent_2 ++ dktX2_lent_3
def dkwX2_lent_1 : List UInt8 := [28, 154, 0, 14, 42, 27, 5, 96, 3, 16, 9, 182, 0, 233, 61, 28, 154, 0, 21, 42, 42, 16, 102]
abbrev dktX2_lent_1 : List UInt8 := dkwX2_lent_1 ++ dktX2_lent_2
def dkwX2_lent_0 : List UInt8 := [42, 27, 4, 96, 3, 16, 15, 182, 0, 233, 61, 28, 154, 0, 12, 42, 42, 182, 0, 241, 182, 0, 237, 61]
abbrev dktX2_lent_0 : List UInt8 := dkwX2_lent_0 ++ dktX2_lent_1
theorem dksX2_lent_0 : cX2_lent.data.toList.drop 0 = dktX2_lent_0 := by decide +kernel
theorem dksX2_lent_1 : cX2_lent.data.toList.drop 24 = dktX2_lent_1 := dk_seg dksX2_lent_0 24 rfl rfl
theorem dksX2_lent_2 : cX2_lent.data.toList.drop 47 = dktX2_lent_2 := dk_seg dksX2_lent_1 23 rfl rfl
theorem dksX2_lent_3 : cX2_lent.data.toList.drop 71 = dktX2_lent_3 := dk_seg dksX2_lent_2 24 rfl rfl
theorem dX2_lent_0 : decode cX2_lent 0 = .ok (.aload_n 0, 1) := dk_42 (dk_at dksX2_lent_0 0 rfl rfl)
theorem dX2_lent_1 : decode cX2_lent 1 = .ok (.iload_n 1, 1) := dk_27 (dk_at dksX2_lent_0 1 rfl rfl)
theorem dX2_lent_2 : decode cX2_lent 2 = .ok (.iconst 1, 1) := dk_4 (dk_at dksX2_lent_0 2 rfl rfl)
theorem dX2_lent_3 : decode cX2_lent 3 = .ok (.iadd, 1) := dk_96 (dk_at dksX2_lent_0 3 rfl rfl)
theorem dX2_lent_4 : decode cX2_lent 4 = .ok (.iconst 0, 1) := dk_3 (dk_at dksX2_lent_0 4 rfl rfl)
theorem dX2_lent_5 : decode cX2_lent 5 = .ok (.bipush 15, 2) := dk_16 15 (dk_at dksX2_lent_0 5 rfl rfl)
theorem dX2_lent_7 : decode cX2_lent 7 = .ok (.invokevirtual 233, 3) := dk_182 0 233 (dk_at dksX2_lent_0 7 rfl rfl)
theorem dX2_lent_10 : decode cX2_lent 10 = .ok (.istore_n 2, 1) := dk_61 (dk_at dksX2_lent_0 10 rfl rfl)
theorem dX2_lent_11 : decode cX2_lent 11 = .ok (.iload_n 2, 1) := dk_28 (dk_at dksX2_lent_0 11 rfl rfl)
theorem dX2_lent_12 : decode cX2_lent 12 = .ok (.ifCond .ne 12, 3) := dk_154 0 12 (dk_at dksX2_lent_0 12 rfl rfl)
theorem dX2_lent_15 : decode cX2_lent 15 = .ok (.aload_n 0, 1) := dk_42 (dk_at dksX2_lent_0 15 rfl rfl)
theorem dX2_lent_16 : decode cX2_lent 16 = .ok (.aload_n 0, 1) := dk_42 (dk_at dksX2_lent_0 16 rfl rfl)
theorem dX2_lent_17 : decode cX2_lent 17 = .ok (.invokevirtual 241, 3) := dk_182 0 241 (dk_at dksX2_lent_0 17 rfl rfl)
theorem dX2_lent_20 : decode cX2_lent 20 = .ok (.invokevirtual 237, 3) := dk_182 0 237 (dk_at dksX2_lent_0 20 rfl rfl)
theorem dX2_lent_23 : decode cX2_lent 23 = .ok (.istore_n 2, 1) := dk_61 (dk_at dksX2_lent_0 23 rfl rfl)
theorem dX2_lent_24 : decode cX2_lent 24 = .ok (.iload_n 2, 1) := dk_28 (dk_at dksX2_lent_1 0 rfl rfl)
theorem dX2_lent_25 : decode cX2_lent 25 = .ok (.ifCond .ne 14, 3) := dk_154 0 14 (dk_at dksX2_lent_1 1 rfl rfl)
theorem dX2_lent_28 : decode cX2_lent 28 = .ok (.aload_n 0, 1) := dk_42 (dk_at dksX2_lent_1 4 rfl rfl)
theorem dX2_lent_29 : decode cX2_lent 29 = .ok (.iload_n 1, 1) := dk_27 (dk_at dksX2_lent_1 5 rfl rfl)
theorem dX2_lent_30 : decode cX2_lent 30 = .ok (.iconst 2, 1) := dk_5 (dk_at dksX2_lent_1 6 rfl rfl)
theorem dX2_lent_31 : decode cX2_lent 31 = .ok (.iadd, 1) := dk_96 (dk_at dksX2_lent_1 7 rfl rfl)
theorem dX2_lent_32 : decode cX2_lent 32 = .ok (.iconst 0, 1) := dk_3 (dk_at dksX2_lent_1 8 rfl rfl)
theorem dX2_lent_33 : decode cX2_lent 33 = .ok (.bipush 9, 2) := dk_16 9 (dk_at dksX2_lent_1 9 rfl rfl)
theorem dX2_lent_35 : decode cX2_lent 35 = .ok (.invokevirtual 233, 3) := dk_182 0 233 (dk_at dksX2_lent_1 11 rfl rfl)
theorem dX2_lent_38 : decode cX2_lent 38 = .ok (.istore_n 2, 1) := dk_61 (dk_at dksX2_lent_1 14 rfl rfl)
theorem dX2_lent_39 : decode cX2_lent 39 = .ok (.iload_n 2, 1) := dk_28 (dk_at dksX2_lent_1 15 rfl rfl)
theorem dX2_lent_40 : decode cX2_lent 40 = .ok (.ifCond .ne 21, 3) := dk_154 0 21 (dk_at dksX2_lent_1 16 rfl rfl)
theorem dX2_lent_43 : decode cX2_lent 43 = .ok (.aload_n 0, 1) := dk_42 (dk_at dksX2_lent_1 19 rfl rfl)
theorem dX2_lent_44 : decode cX2_lent 44 = .ok (.aload_n 0, 1) := dk_42 (dk_at dksX2_lent_1 20 rfl rfl)
theorem dX2_lent_45 : decode cX2_lent 45 = .ok (.bipush 102, 2) := dk_16 102 (dk_at dksX2_lent_1 21 rfl rfl)
theorem dX2_lent_47 : decode cX2_lent 47 = .ok (.bipush 111, 2) := dk_16 111 (dk_at dksX2_lent_2 0 rfl rfl)
theorem dX2_lent_49 : decode cX2_lent 49 = .ok (.bipush 114, 2) := dk_16 114 (dk_at dksX2_lent_2 2 rfl rfl)
theorem dX2_lent_51 : decode cX2_lent 51 = .ok (.invokestatic 146, 3) := dk_184 0 146 (dk_at dksX2_lent_2 4 rfl rfl)
theorem dX2_lent_54 : decode cX2_lent 54 = .ok (.invokevirtual 216, 3) := dk_182 0 216 (dk_at dksX2_lent_2 7 rfl rfl)
theorem dX2_lent_57 : decode cX2_lent 57 = .ok (.invokevirtual 237, 3) := dk_182 0 237 (dk_at dksX2_lent_2 10 rfl rfl)
theorem dX2_lent_60 : decode cX2_lent 60 = .ok (.istore_n 2, 1) := dk_61 (dk_at dksX2_lent_2 13 rfl rfl)
theorem dX2_lent_61 : decode cX2_lent 61 = .ok (.iload_n 2, 1) := dk_28 (dk_at dksX2_lent_2 14 rfl rfl)
theorem dX2_lent_62 : decode cX2_lent 62 = .ok (.ifCond .eq 7, 3) := dk_153 0 7 (dk_at dksX2_lent_2 15 rfl rfl)
theorem dX2_lent_65 : decode cX2_lent 65 = .ok (.iload_n 2, 1) := dk_28 (dk_at dksX2_lent_2 18 rfl rfl)
theorem dX2_lent_66 : decode cX2_lent 66 = .ok (.goto 13, 3) := dk_167 0 13 (dk_at dksX2_lent_2 19 rfl rfl)
theorem dX2_lent_69 : decode cX2_lent 69 = .ok (.aload_n 0, 1) := dk_42 (dk_at dksX2_lent_2 22 rfl rfl)
theorem dX2_lent_70 : decode cX2_lent 70 = .ok (.iload_n 1, 1) := dk_27 (dk_at dksX2_lent_2 23 rfl rfl)
theorem dX2_lent_71 : decode cX2_lent 71 = .ok (.iconst 3, 1) := dk_6 (dk_at dksX2_lent_3 0 rfl rfl)
theorem dX2_lent_72 : decode cX2_lent 72 = .ok (.iadd, 1) := dk_96 (dk_at dksX2_lent_3 1 rfl rfl)
theorem dX2_lent_73 : decode cX2_lent 73 = .ok (.iconst 1, 1) := dk_4 (dk_at dksX2_lent_3 2 rfl rfl)
theorem dX2_lent_74 : decode cX2_lent 74 = .ok (.bipush 99, 2) := dk_16 99 (dk_at dksX2_lent_3 3 rfl rfl)
theorem dX2_lent_76 : decode cX2_lent 76 = .ok (.invokevirtual 233, 3) := dk_182 0 233 (dk_at dksX2_lent_3 5 rfl rfl)
theorem dX2_lent_79 : decode cX2_lent 79 = .ok (.ireturn, 1) := dk_172 (dk_at dksX2_lent_3 8 rfl rfl)
def dkwX2_isTo_1 : List UInt8 := [172]
abbrev dktX2_isTo_1 : List UInt8 := dkwX2_isTo_1 ++ []
def dkwX2_isTo_0 : List UInt8 := [42, 180, 0, 129, 5, 160, 0, 18, 42, 180, 0, 142, 20, 0, 231, 148, 154, 0, 7, 4, 167, 0, 4, 3]
abbrev dktX2_isTo_0 : List UInt8 := dkwX2_isTo_0 ++ dktX2_isTo_1
theorem dksX2_isTo_0 : cX2_isTo.data.toList.drop 0 = dktX2_isTo_0 := by decide +kernel
theorem dksX2_isTo_1 : cX2_isTo.data.toList.drop 24 = dktX2_isTo_1 := dk_seg dksX2_isTo_0 24 rfl rfl
theorem dX2_isTo_0 : decode cX2_isTo 0 = .ok (.aload_n 0, 1) := dk_42 (dk_at dksX2_isTo_0 0 rfl rfl)
theorem dX2_isTo_1 : decode cX2_isTo 1 = .ok (.getfield 129, 3) := dk_180 0 129 (dk_at dksX2_isTo_0 1 rfl rfl)
theorem dX2_isTo_4 : decode cX2_isTo 4 = .ok (.iconst 2, 1) := dk_5 (dk_at dksX2_isTo_0 4 rfl rfl)
theorem dX2_isTo_5 : decode cX2_isTo 5 = .ok (.if_icmp .ne 18, 3) := dk_160 0 18 (dk_at dksX2_isTo_0 5 rfl rfl)
theorem dX2_isTo_8 : decode cX2_isTo 8 = .ok (.aload_n 0, 1) := dk_42 (dk_at dksX2_isTo_0 8 rfl rfl)
theorem dX2_isTo_9 : decode cX2_isTo 9 = .ok (.getfield 142, 3) := dk_180 0 142 (dk_at dksX2_isTo_0 9 rfl rfl)
theorem dX2_isTo_12 : decode cX2_isTo 12 = .ok (.ldc2_w 231, 3) := dk_20 0 231 (dk_at dksX2_isTo_0 12 rfl rfl)
theorem dX2_isTo_15 : decode cX2_isTo 15 = .ok (.lcmp, 1) := dk_148 (dk_at dksX2_isTo_0 15 rfl rfl)
theorem dX2_isTo_16 : decode cX2_isTo 16 = .ok (.ifCond .ne 7, 3) := dk_154 0 7 (dk_at dksX2_isTo_0 16 rfl rfl)
theorem dX2_isTo_19 : decode cX2_isTo 19 = .ok (.iconst 1, 1) := dk_4 (dk_at dksX2_isTo_0 19 rfl rfl)
theorem dX2_isTo_20 : decode cX2_isTo 20 = .ok (.goto 4, 3) := dk_167 0 4 (dk_at dksX2_isTo_0 20 rfl rfl)
theorem dX2_isTo_23 : decode cX2_isTo 23 = .ok (.iconst 0, 1) := dk_3 (dk_at dksX2_isTo_0 23 rfl rfl)
theorem dX2_isTo_24 : decode cX2_isTo 24 = .ok (.ireturn, 1) := dk_172 (dk_at dksX2_isTo_1 0 rfl rfl)
def dkwX2_summed_2 : List UInt8 := [172, 167, 255, 217, 42, 6, 182, 0, 204, 42, 180, 0, 160, 158, 0, 7, 4, 167, 0, 4, 3, 172]
abbrev dktX2_summed_2 : List UInt8 := dkwX2_summed_2 ++ []
def dkwX2_summed_1 : List UInt8 := [42, 180, 0, 163, 153, 0, 10, 42, 182, 0, 210, 167, 0, 7, 42, 182, 0, 213, 60, 27, 153, 0, 5, 27]
abbrev dktX2_summed_1 : List UInt8 := dkwX2_summed_1 ++ dktX2_summed_2
def dkwX2_summed_0 : List UInt8 := [42, 3, 181, 0, 160, 42, 3, 181, 0, 163, 42, 180, 0, 163, 153, 0, 10, 42, 182, 0, 207, 153, 0, 31]
abbrev dktX2_summed_0 : List UInt8 := dkwX2_summed_0 ++ dktX2_summed_1
theorem dksX2_summed_0 : cX2_summed.data.toList.drop 0 = dktX2_summed_0 := by decide +kernel
theorem dksX2_summed_1 : cX2_summed.data.toList.drop 24 = dktX2_summed_1 := dk_seg dksX2_summed_0 24 rfl rfl
theorem dksX2_summed_2 : cX2_summed.data.toList.drop 48 = dktX2_summed_2 := dk_seg dksX2_summed_1 24 rfl rfl
theorem dX2_summed_0 : decode cX2_summed 0 = .ok (.aload_n 0, 1) := dk_42 (dk_at dksX2_summed_0 0 rfl rfl)
theorem dX2_summed_1 : decode cX2_summed 1 = .ok (.iconst 0, 1) := dk_3 (dk_at dksX2_summed_0 1 rfl rfl)
theorem dX2_summed_2 : decode cX2_summed 2 = .ok (.putfield 160, 3) := dk_181 0 160 (dk_at dksX2_summed_0 2 rfl rfl)
theorem dX2_summed_5 : decode cX2_summed 5 = .ok (.aload_n 0, 1) := dk_42 (dk_at dksX2_summed_0 5 rfl rfl)
theorem dX2_summed_6 : decode cX2_summed 6 = .ok (.iconst 0, 1) := dk_3 (dk_at dksX2_summed_0 6 rfl rfl)
theorem dX2_summed_7 : decode cX2_summed 7 = .ok (.putfield 163, 3) := dk_181 0 163 (dk_at dksX2_summed_0 7 rfl rfl)
theorem dX2_summed_10 : decode cX2_summed 10 = .ok (.aload_n 0, 1) := dk_42 (dk_at dksX2_summed_0 10 rfl rfl)
theorem dX2_summed_11 : decode cX2_summed 11 = .ok (.getfield 163, 3) := dk_180 0 163 (dk_at dksX2_summed_0 11 rfl rfl)
theorem dX2_summed_14 : decode cX2_summed 14 = .ok (.ifCond .eq 10, 3) := dk_153 0 10 (dk_at dksX2_summed_0 14 rfl rfl)
theorem dX2_summed_17 : decode cX2_summed 17 = .ok (.aload_n 0, 1) := dk_42 (dk_at dksX2_summed_0 17 rfl rfl)
theorem dX2_summed_18 : decode cX2_summed 18 = .ok (.invokevirtual 207, 3) := dk_182 0 207 (dk_at dksX2_summed_0 18 rfl rfl)
theorem dX2_summed_21 : decode cX2_summed 21 = .ok (.ifCond .eq 31, 3) := dk_153 0 31 (dk_at dksX2_summed_0 21 rfl rfl)
theorem dX2_summed_24 : decode cX2_summed 24 = .ok (.aload_n 0, 1) := dk_42 (dk_at dksX2_summed_1 0 rfl rfl)
theorem dX2_summed_25 : decode cX2_summed 25 = .ok (.getfield 163, 3) := dk_180 0 163 (dk_at dksX2_summed_1 1 rfl rfl)
theorem dX2_summed_28 : decode cX2_summed 28 = .ok (.ifCond .eq 10, 3) := dk_153 0 10 (dk_at dksX2_summed_1 4 rfl rfl)
theorem dX2_summed_31 : decode cX2_summed 31 = .ok (.aload_n 0, 1) := dk_42 (dk_at dksX2_summed_1 7 rfl rfl)
theorem dX2_summed_32 : decode cX2_summed 32 = .ok (.invokevirtual 210, 3) := dk_182 0 210 (dk_at dksX2_summed_1 8 rfl rfl)
theorem dX2_summed_35 : decode cX2_summed 35 = .ok (.goto 7, 3) := dk_167 0 7 (dk_at dksX2_summed_1 11 rfl rfl)
theorem dX2_summed_38 : decode cX2_summed 38 = .ok (.aload_n 0, 1) := dk_42 (dk_at dksX2_summed_1 14 rfl rfl)
theorem dX2_summed_39 : decode cX2_summed 39 = .ok (.invokevirtual 213, 3) := dk_182 0 213 (dk_at dksX2_summed_1 15 rfl rfl)
theorem dX2_summed_42 : decode cX2_summed 42 = .ok (.istore_n 1, 1) := dk_60 (dk_at dksX2_summed_1 18 rfl rfl)
theorem dX2_summed_43 : decode cX2_summed 43 = .ok (.iload_n 1, 1) := dk_27 (dk_at dksX2_summed_1 19 rfl rfl)
theorem dX2_summed_44 : decode cX2_summed 44 = .ok (.ifCond .eq 5, 3) := dk_153 0 5 (dk_at dksX2_summed_1 20 rfl rfl)
theorem dX2_summed_47 : decode cX2_summed 47 = .ok (.iload_n 1, 1) := dk_27 (dk_at dksX2_summed_1 23 rfl rfl)
theorem dX2_summed_48 : decode cX2_summed 48 = .ok (.ireturn, 1) := dk_172 (dk_at dksX2_summed_2 0 rfl rfl)
theorem dX2_summed_49 : decode cX2_summed 49 = .ok (.goto (-39), 3) := dk_167 255 217 (dk_at dksX2_summed_2 1 rfl rfl)
theorem dX2_summed_52 : decode cX2_summed 52 = .ok (.aload_n 0, 1) := dk_42 (dk_at dksX2_summed_2 4 rfl rfl)
theorem dX2_summed_53 : decode cX2_summed 53 = .ok (.iconst 3, 1) := dk_6 (dk_at dksX2_summed_2 5 rfl rfl)
theorem dX2_summed_54 : decode cX2_summed 54 = .ok (.invokevirtual 204, 3) := dk_182 0 204 (dk_at dksX2_summed_2 6 rfl rfl)
theorem dX2_summed_57 : decode cX2_summed 57 = .ok (.aload_n 0, 1) := dk_42 (dk_at dksX2_summed_2 9 rfl rfl)
theorem dX2_summed_58 : decode cX2_summed 58 = .ok (.getfield 160, 3) := dk_180 0 160 (dk_at dksX2_summed_2 10 rfl rfl)
theorem dX2_summed_61 : decode cX2_summed 61 = .ok (.ifCond .le 7, 3) := dk_158 0 7 (dk_at dksX2_summed_2 13 rfl rfl)
theorem dX2_summed_64 : decode cX2_summed 64 = .ok (.iconst 1, 1) := dk_4 (dk_at dksX2_summed_2 16 rfl rfl)
theorem dX2_summed_65 : decode cX2_summed 65 = .ok (.goto 4, 3) := dk_167 0 4 (dk_at dksX2_summed_2 17 rfl rfl)
theorem dX2_summed_68 : decode cX2_summed 68 = .ok (.iconst 0, 1) := dk_3 (dk_at dksX2_summed_2 20 rfl rfl)
theorem dX2_summed_69 : decode cX2_summed 69 = .ok (.ireturn, 1) := dk_172 (dk_at dksX2_summed_2 21 rfl rfl)
def dkwX2_goesOn_2 : List UInt8 := [182, 0, 200, 153, 0, 7, 4, 167, 0, 4, 3, 172]
abbrev dktX2_goesOn_2 : List UInt8 := dkwX2_goesOn_2 ++ []
def dkwX2_goesOn_1 : List UInt8 := [159, 0, 28, 42, 180, 0, 129, 16, 47, 159, 0, 19, 42, 180, 0, 129, 16, 41, 160, 0, 14, 42]
abbrev dktX2_goesOn_1 : List UInt8 := dkwX2_goesOn_1 ++ dktX2_goesOn_2
def dkwX2_goesOn_0 : List UInt8 := [42, 180, 0, 129, 16, 43, 159, 0, 46, 42, 180, 0, 129, 16, 45, 159, 0, 37, 42, 180, 0, 129, 16, 42]
abbrev dktX2_goesOn_0 : List UInt8 := dkwX2_goesOn_0 ++ dktX2_goesOn_1
theorem dksX2_goesOn_0 : cX2_goesOn.data.toList.drop 0 = dktX2_goesOn_0 := by decide +kernel
theorem dksX2_goesOn_1 : cX2_goesOn.data.toList.drop 24 = dktX2_goesOn_1 := dk_seg dksX2_goesOn_0 24 rfl rfl
theorem dksX2_goesOn_2 : cX2_goesOn.data.toList.drop 46 = dktX2_goesOn_2 := dk_seg dksX2_goesOn_1 22 rfl rfl
theorem dX2_goesOn_0 : decode cX2_goesOn 0 = .ok (.aload_n 0, 1) := dk_42 (dk_at dksX2_goesOn_0 0 rfl rfl)
theorem dX2_goesOn_1 : decode cX2_goesOn 1 = .ok (.getfield 129, 3) := dk_180 0 129 (dk_at dksX2_goesOn_0 1 rfl rfl)
theorem dX2_goesOn_4 : decode cX2_goesOn 4 = .ok (.bipush 43, 2) := dk_16 43 (dk_at dksX2_goesOn_0 4 rfl rfl)
theorem dX2_goesOn_6 : decode cX2_goesOn 6 = .ok (.if_icmp .eq 46, 3) := dk_159 0 46 (dk_at dksX2_goesOn_0 6 rfl rfl)
theorem dX2_goesOn_9 : decode cX2_goesOn 9 = .ok (.aload_n 0, 1) := dk_42 (dk_at dksX2_goesOn_0 9 rfl rfl)
theorem dX2_goesOn_10 : decode cX2_goesOn 10 = .ok (.getfield 129, 3) := dk_180 0 129 (dk_at dksX2_goesOn_0 10 rfl rfl)
theorem dX2_goesOn_13 : decode cX2_goesOn 13 = .ok (.bipush 45, 2) := dk_16 45 (dk_at dksX2_goesOn_0 13 rfl rfl)
theorem dX2_goesOn_15 : decode cX2_goesOn 15 = .ok (.if_icmp .eq 37, 3) := dk_159 0 37 (dk_at dksX2_goesOn_0 15 rfl rfl)
theorem dX2_goesOn_18 : decode cX2_goesOn 18 = .ok (.aload_n 0, 1) := dk_42 (dk_at dksX2_goesOn_0 18 rfl rfl)
theorem dX2_goesOn_19 : decode cX2_goesOn 19 = .ok (.getfield 129, 3) := dk_180 0 129 (dk_at dksX2_goesOn_0 19 rfl rfl)
theorem dX2_goesOn_22 : decode cX2_goesOn 22 = .ok (.bipush 42, 2) := dk_16 42 (dk_at dksX2_goesOn_0 22 rfl rfl)
theorem dX2_goesOn_24 : decode cX2_goesOn 24 = .ok (.if_icmp .eq 28, 3) := dk_159 0 28 (dk_at dksX2_goesOn_1 0 rfl rfl)
theorem dX2_goesOn_27 : decode cX2_goesOn 27 = .ok (.aload_n 0, 1) := dk_42 (dk_at dksX2_goesOn_1 3 rfl rfl)
theorem dX2_goesOn_28 : decode cX2_goesOn 28 = .ok (.getfield 129, 3) := dk_180 0 129 (dk_at dksX2_goesOn_1 4 rfl rfl)
theorem dX2_goesOn_31 : decode cX2_goesOn 31 = .ok (.bipush 47, 2) := dk_16 47 (dk_at dksX2_goesOn_1 7 rfl rfl)
theorem dX2_goesOn_33 : decode cX2_goesOn 33 = .ok (.if_icmp .eq 19, 3) := dk_159 0 19 (dk_at dksX2_goesOn_1 9 rfl rfl)
theorem dX2_goesOn_36 : decode cX2_goesOn 36 = .ok (.aload_n 0, 1) := dk_42 (dk_at dksX2_goesOn_1 12 rfl rfl)
theorem dX2_goesOn_37 : decode cX2_goesOn 37 = .ok (.getfield 129, 3) := dk_180 0 129 (dk_at dksX2_goesOn_1 13 rfl rfl)
theorem dX2_goesOn_40 : decode cX2_goesOn 40 = .ok (.bipush 41, 2) := dk_16 41 (dk_at dksX2_goesOn_1 16 rfl rfl)
theorem dX2_goesOn_42 : decode cX2_goesOn 42 = .ok (.if_icmp .ne 14, 3) := dk_160 0 14 (dk_at dksX2_goesOn_1 18 rfl rfl)
theorem dX2_goesOn_45 : decode cX2_goesOn 45 = .ok (.aload_n 0, 1) := dk_42 (dk_at dksX2_goesOn_1 21 rfl rfl)
theorem dX2_goesOn_46 : decode cX2_goesOn 46 = .ok (.invokevirtual 200, 3) := dk_182 0 200 (dk_at dksX2_goesOn_2 0 rfl rfl)
theorem dX2_goesOn_49 : decode cX2_goesOn 49 = .ok (.ifCond .eq 7, 3) := dk_153 0 7 (dk_at dksX2_goesOn_2 3 rfl rfl)
theorem dX2_goesOn_52 : decode cX2_goesOn 52 = .ok (.iconst 1, 1) := dk_4 (dk_at dksX2_goesOn_2 6 rfl rfl)
theorem dX2_goesOn_53 : decode cX2_goesOn 53 = .ok (.goto 4, 3) := dk_167 0 4 (dk_at dksX2_goesOn_2 7 rfl rfl)
theorem dX2_goesOn_56 : decode cX2_goesOn 56 = .ok (.iconst 0, 1) := dk_3 (dk_at dksX2_goesOn_2 10 rfl rfl)
theorem dX2_goesOn_57 : decode cX2_goesOn 57 = .ok (.ireturn, 1) := dk_172 (dk_at dksX2_goesOn_2 11 rfl rfl)
def dkwX2_hasParen_1 : List UInt8 := [132, 1, 1, 167, 255, 232, 3, 172]
abbrev dktX2_hasParen_1 : List UInt8 := dkwX2_hasParen_1 ++ []
def dkwX2_hasParen_0 : List UInt8 := [3, 60, 27, 42, 180, 0, 160, 162, 0, 22, 42, 180, 0, 29, 27, 46, 16, 40, 160, 0, 5, 4, 172]
abbrev dktX2_hasParen_0 : List UInt8 := dkwX2_hasParen_0 ++ dktX2_hasParen_1
theorem dksX2_hasParen_0 : cX2_hasParen.data.toList.drop 0 = dktX2_hasParen_0 := by decide +kernel
theorem dksX2_hasParen_1 : cX2_hasParen.data.toList.drop 23 = dktX2_hasParen_1 := dk_seg dksX2_hasParen_0 23 rfl rfl
theorem dX2_hasParen_0 : decode cX2_hasParen 0 = .ok (.iconst 0, 1) := dk_3 (dk_at dksX2_hasParen_0 0 rfl rfl)
theorem dX2_hasParen_1 : decode cX2_hasParen 1 = .ok (.istore_n 1, 1) := dk_60 (dk_at dksX2_hasParen_0 1 rfl rfl)
theorem dX2_hasParen_2 : decode cX2_hasParen 2 = .ok (.iload_n 1, 1) := dk_27 (dk_at dksX2_hasParen_0 2 rfl rfl)
theorem dX2_hasParen_3 : decode cX2_hasParen 3 = .ok (.aload_n 0, 1) := dk_42 (dk_at dksX2_hasParen_0 3 rfl rfl)
theorem dX2_hasParen_4 : decode cX2_hasParen 4 = .ok (.getfield 160, 3) := dk_180 0 160 (dk_at dksX2_hasParen_0 4 rfl rfl)
theorem dX2_hasParen_7 : decode cX2_hasParen 7 = .ok (.if_icmp .ge 22, 3) := dk_162 0 22 (dk_at dksX2_hasParen_0 7 rfl rfl)
theorem dX2_hasParen_10 : decode cX2_hasParen 10 = .ok (.aload_n 0, 1) := dk_42 (dk_at dksX2_hasParen_0 10 rfl rfl)
theorem dX2_hasParen_11 : decode cX2_hasParen 11 = .ok (.getfield 29, 3) := dk_180 0 29 (dk_at dksX2_hasParen_0 11 rfl rfl)
theorem dX2_hasParen_14 : decode cX2_hasParen 14 = .ok (.iload_n 1, 1) := dk_27 (dk_at dksX2_hasParen_0 14 rfl rfl)
theorem dX2_hasParen_15 : decode cX2_hasParen 15 = .ok (.iaload, 1) := dk_46 (dk_at dksX2_hasParen_0 15 rfl rfl)
theorem dX2_hasParen_16 : decode cX2_hasParen 16 = .ok (.bipush 40, 2) := dk_16 40 (dk_at dksX2_hasParen_0 16 rfl rfl)
theorem dX2_hasParen_18 : decode cX2_hasParen 18 = .ok (.if_icmp .ne 5, 3) := dk_160 0 5 (dk_at dksX2_hasParen_0 18 rfl rfl)
theorem dX2_hasParen_21 : decode cX2_hasParen 21 = .ok (.iconst 1, 1) := dk_4 (dk_at dksX2_hasParen_0 21 rfl rfl)
theorem dX2_hasParen_22 : decode cX2_hasParen 22 = .ok (.ireturn, 1) := dk_172 (dk_at dksX2_hasParen_0 22 rfl rfl)
theorem dX2_hasParen_23 : decode cX2_hasParen 23 = .ok (.iinc 1 1, 3) := dk_132 1 1 (dk_at dksX2_hasParen_1 0 rfl rfl)
theorem dX2_hasParen_26 : decode cX2_hasParen 26 = .ok (.goto (-24), 3) := dk_167 255 232 (dk_at dksX2_hasParen_1 3 rfl rfl)
theorem dX2_hasParen_29 : decode cX2_hasParen 29 = .ok (.iconst 0, 1) := dk_3 (dk_at dksX2_hasParen_1 6 rfl rfl)
theorem dX2_hasParen_30 : decode cX2_hasParen 30 = .ok (.ireturn, 1) := dk_172 (dk_at dksX2_hasParen_1 7 rfl rfl)
def dkwX2_behindOne_5 : List UInt8 := [182, 0, 184, 3, 172]
abbrev dktX2_behindOne_5 : List UInt8 := dkwX2_behindOne_5 ++ []
def dkwX2_behindOne_4 : List UInt8 := [180, 0, 160, 4, 100, 181, 0, 160, 42, 89, 180, 0, 167, 4, 100, 181, 0, 167, 42, 182, 0, 187, 42]
abbrev dktX2_behindOne_4 : List UInt8 := dkwX2_behindOne_4 ++ dktX2_behindOne_5
def dkwX2_behindOne_3 : List UInt8 := [167, 0, 5, 16, 6, 182, 0, 197, 42, 3, 181, 0, 163, 167, 0, 32, 42, 6, 182, 0, 204, 42, 89]
abbrev dktX2_behindOne_3 : List UInt8 := dkwX2_behindOne_3 ++ dktX2_behindOne_4
def dkwX2_behindOne_2 : List UInt8 := [159, 0, 9, 27, 16, 47, 160, 0, 32, 42, 8, 182, 0, 204, 42, 27, 16, 42, 160, 0, 7, 8]
abbrev dktX2_behindOne_2 : List UInt8 := dkwX2_behindOne_2 ++ dktX2_behindOne_3
def dkwX2_behindOne_1 : List UInt8 := [16, 43, 160, 0, 7, 6, 167, 0, 4, 7, 182, 0, 197, 42, 3, 181, 0, 163, 167, 0, 73, 27, 16, 42]
abbrev dktX2_behindOne_1 : List UInt8 := dkwX2_behindOne_1 ++ dktX2_behindOne_2
def dkwX2_behindOne_0 : List UInt8 := [42, 180, 0, 129, 60, 27, 16, 43, 159, 0, 9, 27, 16, 45, 160, 0, 31, 42, 6, 182, 0, 204, 42, 27]
abbrev dktX2_behindOne_0 : List UInt8 := dkwX2_behindOne_0 ++ dktX2_behindOne_1
theorem dksX2_behindOne_0 : cX2_behindOne.data.toList.drop 0 = dktX2_behindOne_0 := by decide +kernel
theorem dksX2_behindOne_1 : cX2_behindOne.data.toList.drop 24 = dktX2_behindOne_1 := dk_seg dksX2_behindOne_0 24 rfl rfl
theorem dksX2_behindOne_2 : cX2_behindOne.data.toList.drop 48 = dktX2_behindOne_2 := dk_seg dksX2_behindOne_1 24 rfl rfl
theorem dksX2_behindOne_3 : cX2_behindOne.data.toList.drop 70 = dktX2_behindOne_3 := dk_seg dksX2_behindOne_2 22 rfl rfl
theorem dksX2_behindOne_4 : cX2_behindOne.data.toList.drop 93 = dktX2_behindOne_4 := dk_seg dksX2_behindOne_3 23 rfl rfl
theorem dksX2_behindOne_5 : cX2_behindOne.data.toList.drop 116 = dktX2_behindOne_5 := dk_seg dksX2_behindOne_4 23 rfl rfl
theorem dX2_behindOne_0 : decode cX2_behindOne 0 = .ok (.aload_n 0, 1) := dk_42 (dk_at dksX2_behindOne_0 0 rfl rfl)
theorem dX2_behindOne_1 : decode cX2_behindOne 1 = .ok (.getfield 129, 3) := dk_180 0 129 (dk_at dksX2_behindOne_0 1 rfl rfl)
theorem dX2_behindOne_4 : decode cX2_behindOne 4 = .ok (.istore_n 1, 1) := dk_60 (dk_at dksX2_behindOne_0 4 rfl rfl)
theorem dX2_behindOne_5 : decode cX2_behindOne 5 = .ok (.iload_n 1, 1) := dk_27 (dk_at dksX2_behindOne_0 5 rfl rfl)
theorem dX2_behindOne_6 : decode cX2_behindOne 6 = .ok (.bipush 43, 2) := dk_16 43 (dk_at dksX2_behindOne_0 6 rfl rfl)
theorem dX2_behindOne_8 : decode cX2_behindOne 8 = .ok (.if_icmp .eq 9, 3) := dk_159 0 9 (dk_at dksX2_behindOne_0 8 rfl rfl)
theorem dX2_behindOne_11 : decode cX2_behindOne 11 = .ok (.iload_n 1, 1) := dk_27 (dk_at dksX2_behindOne_0 11 rfl rfl)
theorem dX2_behindOne_12 : decode cX2_behindOne 12 = .ok (.bipush 45, 2) := dk_16 45 (dk_at dksX2_behindOne_0 12 rfl rfl)
theorem dX2_behindOne_14 : decode cX2_behindOne 14 = .ok (.if_icmp .ne 31, 3) := dk_160 0 31 (dk_at dksX2_behindOne_0 14 rfl rfl)
theorem dX2_behindOne_17 : decode cX2_behindOne 17 = .ok (.aload_n 0, 1) := dk_42 (dk_at dksX2_behindOne_0 17 rfl rfl)
theorem dX2_behindOne_18 : decode cX2_behindOne 18 = .ok (.iconst 3, 1) := dk_6 (dk_at dksX2_behindOne_0 18 rfl rfl)
theorem dX2_behindOne_19 : decode cX2_behindOne 19 = .ok (.invokevirtual 204, 3) := dk_182 0 204 (dk_at dksX2_behindOne_0 19 rfl rfl)
theorem dX2_behindOne_22 : decode cX2_behindOne 22 = .ok (.aload_n 0, 1) := dk_42 (dk_at dksX2_behindOne_0 22 rfl rfl)
theorem dX2_behindOne_23 : decode cX2_behindOne 23 = .ok (.iload_n 1, 1) := dk_27 (dk_at dksX2_behindOne_0 23 rfl rfl)
theorem dX2_behindOne_24 : decode cX2_behindOne 24 = .ok (.bipush 43, 2) := dk_16 43 (dk_at dksX2_behindOne_1 0 rfl rfl)
theorem dX2_behindOne_26 : decode cX2_behindOne 26 = .ok (.if_icmp .ne 7, 3) := dk_160 0 7 (dk_at dksX2_behindOne_1 2 rfl rfl)
theorem dX2_behindOne_29 : decode cX2_behindOne 29 = .ok (.iconst 3, 1) := dk_6 (dk_at dksX2_behindOne_1 5 rfl rfl)
theorem dX2_behindOne_30 : decode cX2_behindOne 30 = .ok (.goto 4, 3) := dk_167 0 4 (dk_at dksX2_behindOne_1 6 rfl rfl)
theorem dX2_behindOne_33 : decode cX2_behindOne 33 = .ok (.iconst 4, 1) := dk_7 (dk_at dksX2_behindOne_1 9 rfl rfl)
theorem dX2_behindOne_34 : decode cX2_behindOne 34 = .ok (.invokevirtual 197, 3) := dk_182 0 197 (dk_at dksX2_behindOne_1 10 rfl rfl)
theorem dX2_behindOne_37 : decode cX2_behindOne 37 = .ok (.aload_n 0, 1) := dk_42 (dk_at dksX2_behindOne_1 13 rfl rfl)
theorem dX2_behindOne_38 : decode cX2_behindOne 38 = .ok (.iconst 0, 1) := dk_3 (dk_at dksX2_behindOne_1 14 rfl rfl)
theorem dX2_behindOne_39 : decode cX2_behindOne 39 = .ok (.putfield 163, 3) := dk_181 0 163 (dk_at dksX2_behindOne_1 15 rfl rfl)
theorem dX2_behindOne_42 : decode cX2_behindOne 42 = .ok (.goto 73, 3) := dk_167 0 73 (dk_at dksX2_behindOne_1 18 rfl rfl)
theorem dX2_behindOne_45 : decode cX2_behindOne 45 = .ok (.iload_n 1, 1) := dk_27 (dk_at dksX2_behindOne_1 21 rfl rfl)
theorem dX2_behindOne_46 : decode cX2_behindOne 46 = .ok (.bipush 42, 2) := dk_16 42 (dk_at dksX2_behindOne_1 22 rfl rfl)
theorem dX2_behindOne_48 : decode cX2_behindOne 48 = .ok (.if_icmp .eq 9, 3) := dk_159 0 9 (dk_at dksX2_behindOne_2 0 rfl rfl)
theorem dX2_behindOne_51 : decode cX2_behindOne 51 = .ok (.iload_n 1, 1) := dk_27 (dk_at dksX2_behindOne_2 3 rfl rfl)
theorem dX2_behindOne_52 : decode cX2_behindOne 52 = .ok (.bipush 47, 2) := dk_16 47 (dk_at dksX2_behindOne_2 4 rfl rfl)
theorem dX2_behindOne_54 : decode cX2_behindOne 54 = .ok (.if_icmp .ne 32, 3) := dk_160 0 32 (dk_at dksX2_behindOne_2 6 rfl rfl)
theorem dX2_behindOne_57 : decode cX2_behindOne 57 = .ok (.aload_n 0, 1) := dk_42 (dk_at dksX2_behindOne_2 9 rfl rfl)
theorem dX2_behindOne_58 : decode cX2_behindOne 58 = .ok (.iconst 5, 1) := dk_8 (dk_at dksX2_behindOne_2 10 rfl rfl)
theorem dX2_behindOne_59 : decode cX2_behindOne 59 = .ok (.invokevirtual 204, 3) := dk_182 0 204 (dk_at dksX2_behindOne_2 11 rfl rfl)
theorem dX2_behindOne_62 : decode cX2_behindOne 62 = .ok (.aload_n 0, 1) := dk_42 (dk_at dksX2_behindOne_2 14 rfl rfl)
theorem dX2_behindOne_63 : decode cX2_behindOne 63 = .ok (.iload_n 1, 1) := dk_27 (dk_at dksX2_behindOne_2 15 rfl rfl)
theorem dX2_behindOne_64 : decode cX2_behindOne 64 = .ok (.bipush 42, 2) := dk_16 42 (dk_at dksX2_behindOne_2 16 rfl rfl)
theorem dX2_behindOne_66 : decode cX2_behindOne 66 = .ok (.if_icmp .ne 7, 3) := dk_160 0 7 (dk_at dksX2_behindOne_2 18 rfl rfl)
theorem dX2_behindOne_69 : decode cX2_behindOne 69 = .ok (.iconst 5, 1) := dk_8 (dk_at dksX2_behindOne_2 21 rfl rfl)
theorem dX2_behindOne_70 : decode cX2_behindOne 70 = .ok (.goto 5, 3) := dk_167 0 5 (dk_at dksX2_behindOne_3 0 rfl rfl)
theorem dX2_behindOne_73 : decode cX2_behindOne 73 = .ok (.bipush 6, 2) := dk_16 6 (dk_at dksX2_behindOne_3 3 rfl rfl)
theorem dX2_behindOne_75 : decode cX2_behindOne 75 = .ok (.invokevirtual 197, 3) := dk_182 0 197 (dk_at dksX2_behindOne_3 5 rfl rfl)
theorem dX2_behindOne_78 : decode cX2_behindOne 78 = .ok (.aload_n 0, 1) := dk_42 (dk_at dksX2_behindOne_3 8 rfl rfl)
theorem dX2_behindOne_79 : decode cX2_behindOne 79 = .ok (.iconst 0, 1) := dk_3 (dk_at dksX2_behindOne_3 9 rfl rfl)
theorem dX2_behindOne_80 : decode cX2_behindOne 80 = .ok (.putfield 163, 3) := dk_181 0 163 (dk_at dksX2_behindOne_3 10 rfl rfl)
theorem dX2_behindOne_83 : decode cX2_behindOne 83 = .ok (.goto 32, 3) := dk_167 0 32 (dk_at dksX2_behindOne_3 13 rfl rfl)
theorem dX2_behindOne_86 : decode cX2_behindOne 86 = .ok (.aload_n 0, 1) := dk_42 (dk_at dksX2_behindOne_3 16 rfl rfl)
theorem dX2_behindOne_87 : decode cX2_behindOne 87 = .ok (.iconst 3, 1) := dk_6 (dk_at dksX2_behindOne_3 17 rfl rfl)
theorem dX2_behindOne_88 : decode cX2_behindOne 88 = .ok (.invokevirtual 204, 3) := dk_182 0 204 (dk_at dksX2_behindOne_3 18 rfl rfl)
theorem dX2_behindOne_91 : decode cX2_behindOne 91 = .ok (.aload_n 0, 1) := dk_42 (dk_at dksX2_behindOne_3 21 rfl rfl)
theorem dX2_behindOne_92 : decode cX2_behindOne 92 = .ok (.dup, 1) := dk_89 (dk_at dksX2_behindOne_3 22 rfl rfl)
theorem dX2_behindOne_93 : decode cX2_behindOne 93 = .ok (.getfield 160, 3) := dk_180 0 160 (dk_at dksX2_behindOne_4 0 rfl rfl)
theorem dX2_behindOne_96 : decode cX2_behindOne 96 = .ok (.iconst 1, 1) := dk_4 (dk_at dksX2_behindOne_4 3 rfl rfl)
theorem dX2_behindOne_97 : decode cX2_behindOne 97 = .ok (.isub, 1) := dk_100 (dk_at dksX2_behindOne_4 4 rfl rfl)
theorem dX2_behindOne_98 : decode cX2_behindOne 98 = .ok (.putfield 160, 3) := dk_181 0 160 (dk_at dksX2_behindOne_4 5 rfl rfl)
theorem dX2_behindOne_101 : decode cX2_behindOne 101 = .ok (.aload_n 0, 1) := dk_42 (dk_at dksX2_behindOne_4 8 rfl rfl)
theorem dX2_behindOne_102 : decode cX2_behindOne 102 = .ok (.dup, 1) := dk_89 (dk_at dksX2_behindOne_4 9 rfl rfl)
theorem dX2_behindOne_103 : decode cX2_behindOne 103 = .ok (.getfield 167, 3) := dk_180 0 167 (dk_at dksX2_behindOne_4 10 rfl rfl)
theorem dX2_behindOne_106 : decode cX2_behindOne 106 = .ok (.iconst 1, 1) := dk_4 (dk_at dksX2_behindOne_4 13 rfl rfl)
theorem dX2_behindOne_107 : decode cX2_behindOne 107 = .ok (.isub, 1) := dk_100 (dk_at dksX2_behindOne_4 14 rfl rfl)
theorem dX2_behindOne_108 : decode cX2_behindOne 108 = .ok (.putfield 167, 3) := dk_181 0 167 (dk_at dksX2_behindOne_4 15 rfl rfl)
theorem dX2_behindOne_111 : decode cX2_behindOne 111 = .ok (.aload_n 0, 1) := dk_42 (dk_at dksX2_behindOne_4 18 rfl rfl)
theorem dX2_behindOne_112 : decode cX2_behindOne 112 = .ok (.invokevirtual 187, 3) := dk_182 0 187 (dk_at dksX2_behindOne_4 19 rfl rfl)
theorem dX2_behindOne_115 : decode cX2_behindOne 115 = .ok (.aload_n 0, 1) := dk_42 (dk_at dksX2_behindOne_4 22 rfl rfl)
theorem dX2_behindOne_116 : decode cX2_behindOne 116 = .ok (.invokevirtual 184, 3) := dk_182 0 184 (dk_at dksX2_behindOne_5 0 rfl rfl)
theorem dX2_behindOne_119 : decode cX2_behindOne 119 = .ok (.iconst 0, 1) := dk_3 (dk_at dksX2_behindOne_5 3 rfl rfl)
theorem dX2_behindOne_120 : decode cX2_behindOne 120 = .ok (.ireturn, 1) := dk_172 (dk_at dksX2_behindOne_5 4 rfl rfl)
def dkwX2_settle_2 : List UInt8 := [42, 42, 180, 0, 29, 42, 180, 0, 160, 46, 3, 182, 0, 170, 167, 255, 194, 177]
abbrev dktX2_settle_2 : List UInt8 := dkwX2_settle_2 ++ []
def dkwX2_settle_1 : List UInt8 := [180, 0, 29, 42, 180, 0, 160, 4, 100, 46, 27, 161, 0, 30, 42, 89, 180, 0, 160, 4, 100, 181, 0, 160]
abbrev dktX2_settle_1 : List UInt8 := dkwX2_settle_1 ++ dktX2_settle_2
def dkwX2_settle_0 : List UInt8 := [42, 180, 0, 160, 158, 0, 61, 42, 180, 0, 29, 42, 180, 0, 160, 4, 100, 46, 16, 40, 162, 0, 45, 42]
abbrev dktX2_settle_0 : List UInt8 := dkwX2_settle_0 ++ dktX2_settle_1
theorem dksX2_settle_0 : cX2_settle.data.toList.drop 0 = dktX2_settle_0 := by decide +kernel
theorem dksX2_settle_1 : cX2_settle.data.toList.drop 24 = dktX2_settle_1 := dk_seg dksX2_settle_0 24 rfl rfl
theorem dksX2_settle_2 : cX2_settle.data.toList.drop 48 = dktX2_settle_2 := dk_seg dksX2_settle_1 24 rfl rfl
theorem dX2_settle_0 : decode cX2_settle 0 = .ok (.aload_n 0, 1) := dk_42 (dk_at dksX2_settle_0 0 rfl rfl)
theorem dX2_settle_1 : decode cX2_settle 1 = .ok (.getfield 160, 3) := dk_180 0 160 (dk_at dksX2_settle_0 1 rfl rfl)
theorem dX2_settle_4 : decode cX2_settle 4 = .ok (.ifCond .le 61, 3) := dk_158 0 61 (dk_at dksX2_settle_0 4 rfl rfl)
theorem dX2_settle_7 : decode cX2_settle 7 = .ok (.aload_n 0, 1) := dk_42 (dk_at dksX2_settle_0 7 rfl rfl)
theorem dX2_settle_8 : decode cX2_settle 8 = .ok (.getfield 29, 3) := dk_180 0 29 (dk_at dksX2_settle_0 8 rfl rfl)
theorem dX2_settle_11 : decode cX2_settle 11 = .ok (.aload_n 0, 1) := dk_42 (dk_at dksX2_settle_0 11 rfl rfl)
theorem dX2_settle_12 : decode cX2_settle 12 = .ok (.getfield 160, 3) := dk_180 0 160 (dk_at dksX2_settle_0 12 rfl rfl)
theorem dX2_settle_15 : decode cX2_settle 15 = .ok (.iconst 1, 1) := dk_4 (dk_at dksX2_settle_0 15 rfl rfl)
theorem dX2_settle_16 : decode cX2_settle 16 = .ok (.isub, 1) := dk_100 (dk_at dksX2_settle_0 16 rfl rfl)
theorem dX2_settle_17 : decode cX2_settle 17 = .ok (.iaload, 1) := dk_46 (dk_at dksX2_settle_0 17 rfl rfl)
theorem dX2_settle_18 : decode cX2_settle 18 = .ok (.bipush 40, 2) := dk_16 40 (dk_at dksX2_settle_0 18 rfl rfl)
theorem dX2_settle_20 : decode cX2_settle 20 = .ok (.if_icmp .ge 45, 3) := dk_162 0 45 (dk_at dksX2_settle_0 20 rfl rfl)
theorem dX2_settle_23 : decode cX2_settle 23 = .ok (.aload_n 0, 1) := dk_42 (dk_at dksX2_settle_0 23 rfl rfl)
theorem dX2_settle_24 : decode cX2_settle 24 = .ok (.getfield 29, 3) := dk_180 0 29 (dk_at dksX2_settle_1 0 rfl rfl)
theorem dX2_settle_27 : decode cX2_settle 27 = .ok (.aload_n 0, 1) := dk_42 (dk_at dksX2_settle_1 3 rfl rfl)
theorem dX2_settle_28 : decode cX2_settle 28 = .ok (.getfield 160, 3) := dk_180 0 160 (dk_at dksX2_settle_1 4 rfl rfl)
theorem dX2_settle_31 : decode cX2_settle 31 = .ok (.iconst 1, 1) := dk_4 (dk_at dksX2_settle_1 7 rfl rfl)
theorem dX2_settle_32 : decode cX2_settle 32 = .ok (.isub, 1) := dk_100 (dk_at dksX2_settle_1 8 rfl rfl)
theorem dX2_settle_33 : decode cX2_settle 33 = .ok (.iaload, 1) := dk_46 (dk_at dksX2_settle_1 9 rfl rfl)
theorem dX2_settle_34 : decode cX2_settle 34 = .ok (.iload_n 1, 1) := dk_27 (dk_at dksX2_settle_1 10 rfl rfl)
theorem dX2_settle_35 : decode cX2_settle 35 = .ok (.if_icmp .lt 30, 3) := dk_161 0 30 (dk_at dksX2_settle_1 11 rfl rfl)
theorem dX2_settle_38 : decode cX2_settle 38 = .ok (.aload_n 0, 1) := dk_42 (dk_at dksX2_settle_1 14 rfl rfl)
theorem dX2_settle_39 : decode cX2_settle 39 = .ok (.dup, 1) := dk_89 (dk_at dksX2_settle_1 15 rfl rfl)
theorem dX2_settle_40 : decode cX2_settle 40 = .ok (.getfield 160, 3) := dk_180 0 160 (dk_at dksX2_settle_1 16 rfl rfl)
theorem dX2_settle_43 : decode cX2_settle 43 = .ok (.iconst 1, 1) := dk_4 (dk_at dksX2_settle_1 19 rfl rfl)
theorem dX2_settle_44 : decode cX2_settle 44 = .ok (.isub, 1) := dk_100 (dk_at dksX2_settle_1 20 rfl rfl)
theorem dX2_settle_45 : decode cX2_settle 45 = .ok (.putfield 160, 3) := dk_181 0 160 (dk_at dksX2_settle_1 21 rfl rfl)
theorem dX2_settle_48 : decode cX2_settle 48 = .ok (.aload_n 0, 1) := dk_42 (dk_at dksX2_settle_2 0 rfl rfl)
theorem dX2_settle_49 : decode cX2_settle 49 = .ok (.aload_n 0, 1) := dk_42 (dk_at dksX2_settle_2 1 rfl rfl)
theorem dX2_settle_50 : decode cX2_settle 50 = .ok (.getfield 29, 3) := dk_180 0 29 (dk_at dksX2_settle_2 2 rfl rfl)
theorem dX2_settle_53 : decode cX2_settle 53 = .ok (.aload_n 0, 1) := dk_42 (dk_at dksX2_settle_2 5 rfl rfl)
theorem dX2_settle_54 : decode cX2_settle 54 = .ok (.getfield 160, 3) := dk_180 0 160 (dk_at dksX2_settle_2 6 rfl rfl)
theorem dX2_settle_57 : decode cX2_settle 57 = .ok (.iaload, 1) := dk_46 (dk_at dksX2_settle_2 9 rfl rfl)
theorem dX2_settle_58 : decode cX2_settle 58 = .ok (.iconst 0, 1) := dk_3 (dk_at dksX2_settle_2 10 rfl rfl)
theorem dX2_settle_59 : decode cX2_settle 59 = .ok (.invokevirtual 170, 3) := dk_182 0 170 (dk_at dksX2_settle_2 11 rfl rfl)
theorem dX2_settle_62 : decode cX2_settle 62 = .ok (.goto (-62), 3) := dk_167 255 194 (dk_at dksX2_settle_2 14 rfl rfl)
theorem dX2_settle_65 : decode cX2_settle 65 = .ok (.return_, 1) := dk_177 (dk_at dksX2_settle_2 17 rfl rfl)
def dkwX2_emit_2 : List UInt8 := [96, 181, 0, 157, 177]
abbrev dktX2_emit_2 : List UInt8 := dkwX2_emit_2 ++ []
def dkwX2_emit_1 : List UInt8 := [42, 180, 0, 154, 16, 100, 96, 5, 42, 180, 0, 157, 104, 96, 4, 96, 28, 79, 42, 89, 180, 0, 157, 4]
abbrev dktX2_emit_1 : List UInt8 := dkwX2_emit_1 ++ dktX2_emit_2
def dkwX2_emit_0 : List UInt8 := [42, 180, 0, 16, 42, 180, 0, 154, 16, 100, 96, 5, 42, 180, 0, 157, 104, 96, 27, 79, 42, 180, 0, 16]
abbrev dktX2_emit_0 : List UInt8 := dkwX2_emit_0 ++ dktX2_emit_1
theorem dksX2_emit_0 : cX2_emit.data.toList.drop 0 = dktX2_emit_0 := by decide +kernel
theorem dksX2_emit_1 : cX2_emit.data.toList.drop 24 = dktX2_emit_1 := dk_seg dksX2_emit_0 24 rfl rfl
theorem dksX2_emit_2 : cX2_emit.data.toList.drop 48 = dktX2_emit_2 := dk_seg dksX2_emit_1 24 rfl rfl
theorem dX2_emit_0 : decode cX2_emit 0 = .ok (.aload_n 0, 1) := dk_42 (dk_at dksX2_emit_0 0 rfl rfl)
theorem dX2_emit_1 : decode cX2_emit 1 = .ok (.getfield 16, 3) := dk_180 0 16 (dk_at dksX2_emit_0 1 rfl rfl)
theorem dX2_emit_4 : decode cX2_emit 4 = .ok (.aload_n 0, 1) := dk_42 (dk_at dksX2_emit_0 4 rfl rfl)
theorem dX2_emit_5 : decode cX2_emit 5 = .ok (.getfield 154, 3) := dk_180 0 154 (dk_at dksX2_emit_0 5 rfl rfl)
theorem dX2_emit_8 : decode cX2_emit 8 = .ok (.bipush 100, 2) := dk_16 100 (dk_at dksX2_emit_0 8 rfl rfl)
theorem dX2_emit_10 : decode cX2_emit 10 = .ok (.iadd, 1) := dk_96 (dk_at dksX2_emit_0 10 rfl rfl)
theorem dX2_emit_11 : decode cX2_emit 11 = .ok (.iconst 2, 1) := dk_5 (dk_at dksX2_emit_0 11 rfl rfl)
theorem dX2_emit_12 : decode cX2_emit 12 = .ok (.aload_n 0, 1) := dk_42 (dk_at dksX2_emit_0 12 rfl rfl)
theorem dX2_emit_13 : decode cX2_emit 13 = .ok (.getfield 157, 3) := dk_180 0 157 (dk_at dksX2_emit_0 13 rfl rfl)
theorem dX2_emit_16 : decode cX2_emit 16 = .ok (.imul, 1) := dk_104 (dk_at dksX2_emit_0 16 rfl rfl)
theorem dX2_emit_17 : decode cX2_emit 17 = .ok (.iadd, 1) := dk_96 (dk_at dksX2_emit_0 17 rfl rfl)
theorem dX2_emit_18 : decode cX2_emit 18 = .ok (.iload_n 1, 1) := dk_27 (dk_at dksX2_emit_0 18 rfl rfl)
theorem dX2_emit_19 : decode cX2_emit 19 = .ok (.iastore, 1) := dk_79 (dk_at dksX2_emit_0 19 rfl rfl)
theorem dX2_emit_20 : decode cX2_emit 20 = .ok (.aload_n 0, 1) := dk_42 (dk_at dksX2_emit_0 20 rfl rfl)
theorem dX2_emit_21 : decode cX2_emit 21 = .ok (.getfield 16, 3) := dk_180 0 16 (dk_at dksX2_emit_0 21 rfl rfl)
theorem dX2_emit_24 : decode cX2_emit 24 = .ok (.aload_n 0, 1) := dk_42 (dk_at dksX2_emit_1 0 rfl rfl)
theorem dX2_emit_25 : decode cX2_emit 25 = .ok (.getfield 154, 3) := dk_180 0 154 (dk_at dksX2_emit_1 1 rfl rfl)
theorem dX2_emit_28 : decode cX2_emit 28 = .ok (.bipush 100, 2) := dk_16 100 (dk_at dksX2_emit_1 4 rfl rfl)
theorem dX2_emit_30 : decode cX2_emit 30 = .ok (.iadd, 1) := dk_96 (dk_at dksX2_emit_1 6 rfl rfl)
theorem dX2_emit_31 : decode cX2_emit 31 = .ok (.iconst 2, 1) := dk_5 (dk_at dksX2_emit_1 7 rfl rfl)
theorem dX2_emit_32 : decode cX2_emit 32 = .ok (.aload_n 0, 1) := dk_42 (dk_at dksX2_emit_1 8 rfl rfl)
theorem dX2_emit_33 : decode cX2_emit 33 = .ok (.getfield 157, 3) := dk_180 0 157 (dk_at dksX2_emit_1 9 rfl rfl)
theorem dX2_emit_36 : decode cX2_emit 36 = .ok (.imul, 1) := dk_104 (dk_at dksX2_emit_1 12 rfl rfl)
theorem dX2_emit_37 : decode cX2_emit 37 = .ok (.iadd, 1) := dk_96 (dk_at dksX2_emit_1 13 rfl rfl)
theorem dX2_emit_38 : decode cX2_emit 38 = .ok (.iconst 1, 1) := dk_4 (dk_at dksX2_emit_1 14 rfl rfl)
theorem dX2_emit_39 : decode cX2_emit 39 = .ok (.iadd, 1) := dk_96 (dk_at dksX2_emit_1 15 rfl rfl)
theorem dX2_emit_40 : decode cX2_emit 40 = .ok (.iload_n 2, 1) := dk_28 (dk_at dksX2_emit_1 16 rfl rfl)
theorem dX2_emit_41 : decode cX2_emit 41 = .ok (.iastore, 1) := dk_79 (dk_at dksX2_emit_1 17 rfl rfl)
theorem dX2_emit_42 : decode cX2_emit 42 = .ok (.aload_n 0, 1) := dk_42 (dk_at dksX2_emit_1 18 rfl rfl)
theorem dX2_emit_43 : decode cX2_emit 43 = .ok (.dup, 1) := dk_89 (dk_at dksX2_emit_1 19 rfl rfl)
theorem dX2_emit_44 : decode cX2_emit 44 = .ok (.getfield 157, 3) := dk_180 0 157 (dk_at dksX2_emit_1 20 rfl rfl)
theorem dX2_emit_47 : decode cX2_emit 47 = .ok (.iconst 1, 1) := dk_4 (dk_at dksX2_emit_1 23 rfl rfl)
theorem dX2_emit_48 : decode cX2_emit 48 = .ok (.iadd, 1) := dk_96 (dk_at dksX2_emit_2 0 rfl rfl)
theorem dX2_emit_49 : decode cX2_emit 49 = .ok (.putfield 157, 3) := dk_181 0 157 (dk_at dksX2_emit_2 1 rfl rfl)
theorem dX2_emit_52 : decode cX2_emit 52 = .ok (.return_, 1) := dk_177 (dk_at dksX2_emit_2 4 rfl rfl)
def dkwX2_push_0 : List UInt8 := [42, 180, 0, 29, 42, 180, 0, 160, 27, 79, 42, 89, 180, 0, 160, 4, 96, 181, 0, 160, 177]
abbrev dktX2_push_0 : List UInt8 := dkwX2_push_0 ++ []
theorem dksX2_push_0 : cX2_push.data.toList.drop 0 = dktX2_push_0 := by decide +kernel
theorem dX2_push_0 : decode cX2_push 0 = .ok (.aload_n 0, 1) := dk_42 (dk_at dksX2_push_0 0 rfl rfl)
theorem dX2_push_1 : decode cX2_push 1 = .ok (.getfield 29, 3) := dk_180 0 29 (dk_at dksX2_push_0 1 rfl rfl)
theorem dX2_push_4 : decode cX2_push 4 = .ok (.aload_n 0, 1) := dk_42 (dk_at dksX2_push_0 4 rfl rfl)
theorem dX2_push_5 : decode cX2_push 5 = .ok (.getfield 160, 3) := dk_180 0 160 (dk_at dksX2_push_0 5 rfl rfl)
theorem dX2_push_8 : decode cX2_push 8 = .ok (.iload_n 1, 1) := dk_27 (dk_at dksX2_push_0 8 rfl rfl)
theorem dX2_push_9 : decode cX2_push 9 = .ok (.iastore, 1) := dk_79 (dk_at dksX2_push_0 9 rfl rfl)
theorem dX2_push_10 : decode cX2_push 10 = .ok (.aload_n 0, 1) := dk_42 (dk_at dksX2_push_0 10 rfl rfl)
theorem dX2_push_11 : decode cX2_push 11 = .ok (.dup, 1) := dk_89 (dk_at dksX2_push_0 11 rfl rfl)
theorem dX2_push_12 : decode cX2_push 12 = .ok (.getfield 160, 3) := dk_180 0 160 (dk_at dksX2_push_0 12 rfl rfl)
theorem dX2_push_15 : decode cX2_push 15 = .ok (.iconst 1, 1) := dk_4 (dk_at dksX2_push_0 15 rfl rfl)
theorem dX2_push_16 : decode cX2_push 16 = .ok (.iadd, 1) := dk_96 (dk_at dksX2_push_0 16 rfl rfl)
theorem dX2_push_17 : decode cX2_push 17 = .ok (.putfield 160, 3) := dk_181 0 160 (dk_at dksX2_push_0 17 rfl rfl)
theorem dX2_push_20 : decode cX2_push 20 = .ok (.return_, 1) := dk_177 (dk_at dksX2_push_0 20 rfl rfl)
def dkwX2_whole_2 : List UInt8 := [5, 3, 182, 0, 170, 167, 255, 208, 177]
abbrev dktX2_whole_2 : List UInt8 := dkwX2_whole_2 ++ []
def dkwX2_whole_1 : List UInt8 := [160, 0, 32, 42, 89, 180, 0, 160, 4, 100, 181, 0, 160, 42, 89, 180, 0, 167, 4, 100, 181, 0, 167, 42]
abbrev dktX2_whole_1 : List UInt8 := dkwX2_whole_1 ++ dktX2_whole_2
def dkwX2_whole_0 : List UInt8 := [42, 4, 181, 0, 163, 42, 180, 0, 160, 158, 0, 47, 42, 180, 0, 29, 42, 180, 0, 160, 4, 100, 46, 5]
abbrev dktX2_whole_0 : List UInt8 := dkwX2_whole_0 ++ dktX2_whole_1
theorem dksX2_whole_0 : cX2_whole.data.toList.drop 0 = dktX2_whole_0 := by decide +kernel
theorem dksX2_whole_1 : cX2_whole.data.toList.drop 24 = dktX2_whole_1 := dk_seg dksX2_whole_0 24 rfl rfl
theorem dksX2_whole_2 : cX2_whole.data.toList.drop 48 = dktX2_whole_2 := dk_seg dksX2_whole_1 24 rfl rfl
theorem dX2_whole_0 : decode cX2_whole 0 = .ok (.aload_n 0, 1) := dk_42 (dk_at dksX2_whole_0 0 rfl rfl)
theorem dX2_whole_1 : decode cX2_whole 1 = .ok (.iconst 1, 1) := dk_4 (dk_at dksX2_whole_0 1 rfl rfl)
theorem dX2_whole_2 : decode cX2_whole 2 = .ok (.putfield 163, 3) := dk_181 0 163 (dk_at dksX2_whole_0 2 rfl rfl)
theorem dX2_whole_5 : decode cX2_whole 5 = .ok (.aload_n 0, 1) := dk_42 (dk_at dksX2_whole_0 5 rfl rfl)
theorem dX2_whole_6 : decode cX2_whole 6 = .ok (.getfield 160, 3) := dk_180 0 160 (dk_at dksX2_whole_0 6 rfl rfl)
theorem dX2_whole_9 : decode cX2_whole 9 = .ok (.ifCond .le 47, 3) := dk_158 0 47 (dk_at dksX2_whole_0 9 rfl rfl)
theorem dX2_whole_12 : decode cX2_whole 12 = .ok (.aload_n 0, 1) := dk_42 (dk_at dksX2_whole_0 12 rfl rfl)
theorem dX2_whole_13 : decode cX2_whole 13 = .ok (.getfield 29, 3) := dk_180 0 29 (dk_at dksX2_whole_0 13 rfl rfl)
theorem dX2_whole_16 : decode cX2_whole 16 = .ok (.aload_n 0, 1) := dk_42 (dk_at dksX2_whole_0 16 rfl rfl)
theorem dX2_whole_17 : decode cX2_whole 17 = .ok (.getfield 160, 3) := dk_180 0 160 (dk_at dksX2_whole_0 17 rfl rfl)
theorem dX2_whole_20 : decode cX2_whole 20 = .ok (.iconst 1, 1) := dk_4 (dk_at dksX2_whole_0 20 rfl rfl)
theorem dX2_whole_21 : decode cX2_whole 21 = .ok (.isub, 1) := dk_100 (dk_at dksX2_whole_0 21 rfl rfl)
theorem dX2_whole_22 : decode cX2_whole 22 = .ok (.iaload, 1) := dk_46 (dk_at dksX2_whole_0 22 rfl rfl)
theorem dX2_whole_23 : decode cX2_whole 23 = .ok (.iconst 2, 1) := dk_5 (dk_at dksX2_whole_0 23 rfl rfl)
theorem dX2_whole_24 : decode cX2_whole 24 = .ok (.if_icmp .ne 32, 3) := dk_160 0 32 (dk_at dksX2_whole_1 0 rfl rfl)
theorem dX2_whole_27 : decode cX2_whole 27 = .ok (.aload_n 0, 1) := dk_42 (dk_at dksX2_whole_1 3 rfl rfl)
theorem dX2_whole_28 : decode cX2_whole 28 = .ok (.dup, 1) := dk_89 (dk_at dksX2_whole_1 4 rfl rfl)
theorem dX2_whole_29 : decode cX2_whole 29 = .ok (.getfield 160, 3) := dk_180 0 160 (dk_at dksX2_whole_1 5 rfl rfl)
theorem dX2_whole_32 : decode cX2_whole 32 = .ok (.iconst 1, 1) := dk_4 (dk_at dksX2_whole_1 8 rfl rfl)
theorem dX2_whole_33 : decode cX2_whole 33 = .ok (.isub, 1) := dk_100 (dk_at dksX2_whole_1 9 rfl rfl)
theorem dX2_whole_34 : decode cX2_whole 34 = .ok (.putfield 160, 3) := dk_181 0 160 (dk_at dksX2_whole_1 10 rfl rfl)
theorem dX2_whole_37 : decode cX2_whole 37 = .ok (.aload_n 0, 1) := dk_42 (dk_at dksX2_whole_1 13 rfl rfl)
theorem dX2_whole_38 : decode cX2_whole 38 = .ok (.dup, 1) := dk_89 (dk_at dksX2_whole_1 14 rfl rfl)
theorem dX2_whole_39 : decode cX2_whole 39 = .ok (.getfield 167, 3) := dk_180 0 167 (dk_at dksX2_whole_1 15 rfl rfl)
theorem dX2_whole_42 : decode cX2_whole 42 = .ok (.iconst 1, 1) := dk_4 (dk_at dksX2_whole_1 18 rfl rfl)
theorem dX2_whole_43 : decode cX2_whole 43 = .ok (.isub, 1) := dk_100 (dk_at dksX2_whole_1 19 rfl rfl)
theorem dX2_whole_44 : decode cX2_whole 44 = .ok (.putfield 167, 3) := dk_181 0 167 (dk_at dksX2_whole_1 20 rfl rfl)
theorem dX2_whole_47 : decode cX2_whole 47 = .ok (.aload_n 0, 1) := dk_42 (dk_at dksX2_whole_1 23 rfl rfl)
theorem dX2_whole_48 : decode cX2_whole 48 = .ok (.iconst 2, 1) := dk_5 (dk_at dksX2_whole_2 0 rfl rfl)
theorem dX2_whole_49 : decode cX2_whole 49 = .ok (.iconst 0, 1) := dk_3 (dk_at dksX2_whole_2 1 rfl rfl)
theorem dX2_whole_50 : decode cX2_whole 50 = .ok (.invokevirtual 170, 3) := dk_182 0 170 (dk_at dksX2_whole_2 2 rfl rfl)
theorem dX2_whole_53 : decode cX2_whole 53 = .ok (.goto (-48), 3) := dk_167 255 208 (dk_at dksX2_whole_2 5 rfl rfl)
theorem dX2_whole_56 : decode cX2_whole 56 = .ok (.return_, 1) := dk_177 (dk_at dksX2_whole_2 8 rfl rfl)
def dkwX2_beginOne_6 : List UInt8 := [182, 0, 184, 3, 172]
abbrev dktX2_beginOne_6 : List UInt8 := dkwX2_beginOne_6 ++ []
def dkwX2_beginOne_5 : List UInt8 := [16, 8, 160, 0, 5, 6, 172, 42, 89, 180, 0, 167, 4, 96, 181, 0, 167, 42, 27, 182, 0, 197, 42]
abbrev dktX2_beginOne_5 : List UInt8 := dkwX2_beginOne_5 ++ dktX2_beginOne_6
def dkwX2_beginOne_4 : List UInt8 := [180, 0, 129, 16, 45, 160, 0, 7, 5, 167, 0, 4, 3, 60, 27, 154, 0, 5, 4, 172, 42, 180, 0, 167]
abbrev dktX2_beginOne_4 : List UInt8 := dkwX2_beginOne_4 ++ dktX2_beginOne_5
def dkwX2_beginOne_3 : List UInt8 := [182, 0, 184, 42, 182, 0, 187, 3, 172, 42, 180, 0, 129, 16, 40, 160, 0, 8, 16, 40, 167, 0, 17, 42]
abbrev dktX2_beginOne_3 : List UInt8 := dkwX2_beginOne_3 ++ dktX2_beginOne_4
def dkwX2_beginOne_2 : List UInt8 := [42, 182, 0, 190, 182, 0, 194, 153, 0, 5, 8, 172, 42, 4, 42, 182, 0, 190, 182, 0, 170, 42]
abbrev dktX2_beginOne_2 : List UInt8 := dkwX2_beginOne_2 ++ dktX2_beginOne_3
def dkwX2_beginOne_1 : List UInt8 := [180, 0, 135, 182, 0, 170, 42, 182, 0, 184, 42, 182, 0, 187, 3, 172, 42, 182, 0, 190, 155, 0, 35, 42]
abbrev dktX2_beginOne_1 : List UInt8 := dkwX2_beginOne_1 ++ dktX2_beginOne_2
def dkwX2_beginOne_0 : List UInt8 := [42, 180, 0, 129, 4, 160, 0, 34, 42, 180, 0, 135, 17, 39, 15, 164, 0, 5, 5, 172, 42, 3, 42]
abbrev dktX2_beginOne_0 : List UInt8 := dkwX2_beginOne_0 ++ dktX2_beginOne_1
theorem dksX2_beginOne_0 : cX2_beginOne.data.toList.drop 0 = dktX2_beginOne_0 := by decide +kernel
theorem dksX2_beginOne_1 : cX2_beginOne.data.toList.drop 23 = dktX2_beginOne_1 := dk_seg dksX2_beginOne_0 23 rfl rfl
theorem dksX2_beginOne_2 : cX2_beginOne.data.toList.drop 47 = dktX2_beginOne_2 := dk_seg dksX2_beginOne_1 24 rfl rfl
theorem dksX2_beginOne_3 : cX2_beginOne.data.toList.drop 69 = dktX2_beginOne_3 := dk_seg dksX2_beginOne_2 22 rfl rfl
theorem dksX2_beginOne_4 : cX2_beginOne.data.toList.drop 93 = dktX2_beginOne_4 := dk_seg dksX2_beginOne_3 24 rfl rfl
theorem dksX2_beginOne_5 : cX2_beginOne.data.toList.drop 117 = dktX2_beginOne_5 := dk_seg dksX2_beginOne_4 24 rfl rfl
theorem dksX2_beginOne_6 : cX2_beginOne.data.toList.drop 140 = dktX2_beginOne_6 := dk_seg dksX2_beginOne_5 23 rfl rfl
theorem dX2_beginOne_0 : decode cX2_beginOne 0 = .ok (.aload_n 0, 1) := dk_42 (dk_at dksX2_beginOne_0 0 rfl rfl)
theorem dX2_beginOne_1 : decode cX2_beginOne 1 = .ok (.getfield 129, 3) := dk_180 0 129 (dk_at dksX2_beginOne_0 1 rfl rfl)
theorem dX2_beginOne_4 : decode cX2_beginOne 4 = .ok (.iconst 1, 1) := dk_4 (dk_at dksX2_beginOne_0 4 rfl rfl)
theorem dX2_beginOne_5 : decode cX2_beginOne 5 = .ok (.if_icmp .ne 34, 3) := dk_160 0 34 (dk_at dksX2_beginOne_0 5 rfl rfl)
theorem dX2_beginOne_8 : decode cX2_beginOne 8 = .ok (.aload_n 0, 1) := dk_42 (dk_at dksX2_beginOne_0 8 rfl rfl)
theorem dX2_beginOne_9 : decode cX2_beginOne 9 = .ok (.getfield 135, 3) := dk_180 0 135 (dk_at dksX2_beginOne_0 9 rfl rfl)
theorem dX2_beginOne_12 : decode cX2_beginOne 12 = .ok (.sipush 9999, 3) := dk_17 39 15 (dk_at dksX2_beginOne_0 12 rfl rfl)
theorem dX2_beginOne_15 : decode cX2_beginOne 15 = .ok (.if_icmp .le 5, 3) := dk_164 0 5 (dk_at dksX2_beginOne_0 15 rfl rfl)
theorem dX2_beginOne_18 : decode cX2_beginOne 18 = .ok (.iconst 2, 1) := dk_5 (dk_at dksX2_beginOne_0 18 rfl rfl)
theorem dX2_beginOne_19 : decode cX2_beginOne 19 = .ok (.ireturn, 1) := dk_172 (dk_at dksX2_beginOne_0 19 rfl rfl)
theorem dX2_beginOne_20 : decode cX2_beginOne 20 = .ok (.aload_n 0, 1) := dk_42 (dk_at dksX2_beginOne_0 20 rfl rfl)
theorem dX2_beginOne_21 : decode cX2_beginOne 21 = .ok (.iconst 0, 1) := dk_3 (dk_at dksX2_beginOne_0 21 rfl rfl)
theorem dX2_beginOne_22 : decode cX2_beginOne 22 = .ok (.aload_n 0, 1) := dk_42 (dk_at dksX2_beginOne_0 22 rfl rfl)
theorem dX2_beginOne_23 : decode cX2_beginOne 23 = .ok (.getfield 135, 3) := dk_180 0 135 (dk_at dksX2_beginOne_1 0 rfl rfl)
theorem dX2_beginOne_26 : decode cX2_beginOne 26 = .ok (.invokevirtual 170, 3) := dk_182 0 170 (dk_at dksX2_beginOne_1 3 rfl rfl)
theorem dX2_beginOne_29 : decode cX2_beginOne 29 = .ok (.aload_n 0, 1) := dk_42 (dk_at dksX2_beginOne_1 6 rfl rfl)
theorem dX2_beginOne_30 : decode cX2_beginOne 30 = .ok (.invokevirtual 184, 3) := dk_182 0 184 (dk_at dksX2_beginOne_1 7 rfl rfl)
theorem dX2_beginOne_33 : decode cX2_beginOne 33 = .ok (.aload_n 0, 1) := dk_42 (dk_at dksX2_beginOne_1 10 rfl rfl)
theorem dX2_beginOne_34 : decode cX2_beginOne 34 = .ok (.invokevirtual 187, 3) := dk_182 0 187 (dk_at dksX2_beginOne_1 11 rfl rfl)
theorem dX2_beginOne_37 : decode cX2_beginOne 37 = .ok (.iconst 0, 1) := dk_3 (dk_at dksX2_beginOne_1 14 rfl rfl)
theorem dX2_beginOne_38 : decode cX2_beginOne 38 = .ok (.ireturn, 1) := dk_172 (dk_at dksX2_beginOne_1 15 rfl rfl)
theorem dX2_beginOne_39 : decode cX2_beginOne 39 = .ok (.aload_n 0, 1) := dk_42 (dk_at dksX2_beginOne_1 16 rfl rfl)
theorem dX2_beginOne_40 : decode cX2_beginOne 40 = .ok (.invokevirtual 190, 3) := dk_182 0 190 (dk_at dksX2_beginOne_1 17 rfl rfl)
theorem dX2_beginOne_43 : decode cX2_beginOne 43 = .ok (.ifCond .lt 35, 3) := dk_155 0 35 (dk_at dksX2_beginOne_1 20 rfl rfl)
theorem dX2_beginOne_46 : decode cX2_beginOne 46 = .ok (.aload_n 0, 1) := dk_42 (dk_at dksX2_beginOne_1 23 rfl rfl)
theorem dX2_beginOne_47 : decode cX2_beginOne 47 = .ok (.aload_n 0, 1) := dk_42 (dk_at dksX2_beginOne_2 0 rfl rfl)
theorem dX2_beginOne_48 : decode cX2_beginOne 48 = .ok (.invokevirtual 190, 3) := dk_182 0 190 (dk_at dksX2_beginOne_2 1 rfl rfl)
theorem dX2_beginOne_51 : decode cX2_beginOne 51 = .ok (.invokevirtual 194, 3) := dk_182 0 194 (dk_at dksX2_beginOne_2 4 rfl rfl)
theorem dX2_beginOne_54 : decode cX2_beginOne 54 = .ok (.ifCond .eq 5, 3) := dk_153 0 5 (dk_at dksX2_beginOne_2 7 rfl rfl)
theorem dX2_beginOne_57 : decode cX2_beginOne 57 = .ok (.iconst 5, 1) := dk_8 (dk_at dksX2_beginOne_2 10 rfl rfl)
theorem dX2_beginOne_58 : decode cX2_beginOne 58 = .ok (.ireturn, 1) := dk_172 (dk_at dksX2_beginOne_2 11 rfl rfl)
theorem dX2_beginOne_59 : decode cX2_beginOne 59 = .ok (.aload_n 0, 1) := dk_42 (dk_at dksX2_beginOne_2 12 rfl rfl)
theorem dX2_beginOne_60 : decode cX2_beginOne 60 = .ok (.iconst 1, 1) := dk_4 (dk_at dksX2_beginOne_2 13 rfl rfl)
theorem dX2_beginOne_61 : decode cX2_beginOne 61 = .ok (.aload_n 0, 1) := dk_42 (dk_at dksX2_beginOne_2 14 rfl rfl)
theorem dX2_beginOne_62 : decode cX2_beginOne 62 = .ok (.invokevirtual 190, 3) := dk_182 0 190 (dk_at dksX2_beginOne_2 15 rfl rfl)
theorem dX2_beginOne_65 : decode cX2_beginOne 65 = .ok (.invokevirtual 170, 3) := dk_182 0 170 (dk_at dksX2_beginOne_2 18 rfl rfl)
theorem dX2_beginOne_68 : decode cX2_beginOne 68 = .ok (.aload_n 0, 1) := dk_42 (dk_at dksX2_beginOne_2 21 rfl rfl)
theorem dX2_beginOne_69 : decode cX2_beginOne 69 = .ok (.invokevirtual 184, 3) := dk_182 0 184 (dk_at dksX2_beginOne_3 0 rfl rfl)
theorem dX2_beginOne_72 : decode cX2_beginOne 72 = .ok (.aload_n 0, 1) := dk_42 (dk_at dksX2_beginOne_3 3 rfl rfl)
theorem dX2_beginOne_73 : decode cX2_beginOne 73 = .ok (.invokevirtual 187, 3) := dk_182 0 187 (dk_at dksX2_beginOne_3 4 rfl rfl)
theorem dX2_beginOne_76 : decode cX2_beginOne 76 = .ok (.iconst 0, 1) := dk_3 (dk_at dksX2_beginOne_3 7 rfl rfl)
theorem dX2_beginOne_77 : decode cX2_beginOne 77 = .ok (.ireturn, 1) := dk_172 (dk_at dksX2_beginOne_3 8 rfl rfl)
theorem dX2_beginOne_78 : decode cX2_beginOne 78 = .ok (.aload_n 0, 1) := dk_42 (dk_at dksX2_beginOne_3 9 rfl rfl)
theorem dX2_beginOne_79 : decode cX2_beginOne 79 = .ok (.getfield 129, 3) := dk_180 0 129 (dk_at dksX2_beginOne_3 10 rfl rfl)
theorem dX2_beginOne_82 : decode cX2_beginOne 82 = .ok (.bipush 40, 2) := dk_16 40 (dk_at dksX2_beginOne_3 13 rfl rfl)
theorem dX2_beginOne_84 : decode cX2_beginOne 84 = .ok (.if_icmp .ne 8, 3) := dk_160 0 8 (dk_at dksX2_beginOne_3 15 rfl rfl)
theorem dX2_beginOne_87 : decode cX2_beginOne 87 = .ok (.bipush 40, 2) := dk_16 40 (dk_at dksX2_beginOne_3 18 rfl rfl)
theorem dX2_beginOne_89 : decode cX2_beginOne 89 = .ok (.goto 17, 3) := dk_167 0 17 (dk_at dksX2_beginOne_3 20 rfl rfl)
theorem dX2_beginOne_92 : decode cX2_beginOne 92 = .ok (.aload_n 0, 1) := dk_42 (dk_at dksX2_beginOne_3 23 rfl rfl)
theorem dX2_beginOne_93 : decode cX2_beginOne 93 = .ok (.getfield 129, 3) := dk_180 0 129 (dk_at dksX2_beginOne_4 0 rfl rfl)
theorem dX2_beginOne_96 : decode cX2_beginOne 96 = .ok (.bipush 45, 2) := dk_16 45 (dk_at dksX2_beginOne_4 3 rfl rfl)
theorem dX2_beginOne_98 : decode cX2_beginOne 98 = .ok (.if_icmp .ne 7, 3) := dk_160 0 7 (dk_at dksX2_beginOne_4 5 rfl rfl)
theorem dX2_beginOne_101 : decode cX2_beginOne 101 = .ok (.iconst 2, 1) := dk_5 (dk_at dksX2_beginOne_4 8 rfl rfl)
theorem dX2_beginOne_102 : decode cX2_beginOne 102 = .ok (.goto 4, 3) := dk_167 0 4 (dk_at dksX2_beginOne_4 9 rfl rfl)
theorem dX2_beginOne_105 : decode cX2_beginOne 105 = .ok (.iconst 0, 1) := dk_3 (dk_at dksX2_beginOne_4 12 rfl rfl)
theorem dX2_beginOne_106 : decode cX2_beginOne 106 = .ok (.istore_n 1, 1) := dk_60 (dk_at dksX2_beginOne_4 13 rfl rfl)
theorem dX2_beginOne_107 : decode cX2_beginOne 107 = .ok (.iload_n 1, 1) := dk_27 (dk_at dksX2_beginOne_4 14 rfl rfl)
theorem dX2_beginOne_108 : decode cX2_beginOne 108 = .ok (.ifCond .ne 5, 3) := dk_154 0 5 (dk_at dksX2_beginOne_4 15 rfl rfl)
theorem dX2_beginOne_111 : decode cX2_beginOne 111 = .ok (.iconst 1, 1) := dk_4 (dk_at dksX2_beginOne_4 18 rfl rfl)
theorem dX2_beginOne_112 : decode cX2_beginOne 112 = .ok (.ireturn, 1) := dk_172 (dk_at dksX2_beginOne_4 19 rfl rfl)
theorem dX2_beginOne_113 : decode cX2_beginOne 113 = .ok (.aload_n 0, 1) := dk_42 (dk_at dksX2_beginOne_4 20 rfl rfl)
theorem dX2_beginOne_114 : decode cX2_beginOne 114 = .ok (.getfield 167, 3) := dk_180 0 167 (dk_at dksX2_beginOne_4 21 rfl rfl)
theorem dX2_beginOne_117 : decode cX2_beginOne 117 = .ok (.bipush 8, 2) := dk_16 8 (dk_at dksX2_beginOne_5 0 rfl rfl)
theorem dX2_beginOne_119 : decode cX2_beginOne 119 = .ok (.if_icmp .ne 5, 3) := dk_160 0 5 (dk_at dksX2_beginOne_5 2 rfl rfl)
theorem dX2_beginOne_122 : decode cX2_beginOne 122 = .ok (.iconst 3, 1) := dk_6 (dk_at dksX2_beginOne_5 5 rfl rfl)
theorem dX2_beginOne_123 : decode cX2_beginOne 123 = .ok (.ireturn, 1) := dk_172 (dk_at dksX2_beginOne_5 6 rfl rfl)
theorem dX2_beginOne_124 : decode cX2_beginOne 124 = .ok (.aload_n 0, 1) := dk_42 (dk_at dksX2_beginOne_5 7 rfl rfl)
theorem dX2_beginOne_125 : decode cX2_beginOne 125 = .ok (.dup, 1) := dk_89 (dk_at dksX2_beginOne_5 8 rfl rfl)
theorem dX2_beginOne_126 : decode cX2_beginOne 126 = .ok (.getfield 167, 3) := dk_180 0 167 (dk_at dksX2_beginOne_5 9 rfl rfl)
theorem dX2_beginOne_129 : decode cX2_beginOne 129 = .ok (.iconst 1, 1) := dk_4 (dk_at dksX2_beginOne_5 12 rfl rfl)
theorem dX2_beginOne_130 : decode cX2_beginOne 130 = .ok (.iadd, 1) := dk_96 (dk_at dksX2_beginOne_5 13 rfl rfl)
theorem dX2_beginOne_131 : decode cX2_beginOne 131 = .ok (.putfield 167, 3) := dk_181 0 167 (dk_at dksX2_beginOne_5 14 rfl rfl)
theorem dX2_beginOne_134 : decode cX2_beginOne 134 = .ok (.aload_n 0, 1) := dk_42 (dk_at dksX2_beginOne_5 17 rfl rfl)
theorem dX2_beginOne_135 : decode cX2_beginOne 135 = .ok (.iload_n 1, 1) := dk_27 (dk_at dksX2_beginOne_5 18 rfl rfl)
theorem dX2_beginOne_136 : decode cX2_beginOne 136 = .ok (.invokevirtual 197, 3) := dk_182 0 197 (dk_at dksX2_beginOne_5 19 rfl rfl)
theorem dX2_beginOne_139 : decode cX2_beginOne 139 = .ok (.aload_n 0, 1) := dk_42 (dk_at dksX2_beginOne_5 22 rfl rfl)
theorem dX2_beginOne_140 : decode cX2_beginOne 140 = .ok (.invokevirtual 184, 3) := dk_182 0 184 (dk_at dksX2_beginOne_6 0 rfl rfl)
theorem dX2_beginOne_143 : decode cX2_beginOne 143 = .ok (.iconst 0, 1) := dk_3 (dk_at dksX2_beginOne_6 3 rfl rfl)
theorem dX2_beginOne_144 : decode cX2_beginOne 144 = .ok (.ireturn, 1) := dk_172 (dk_at dksX2_beginOne_6 4 rfl rfl)
def dkwX2_nameOf_9 : List UInt8 := [167, 0, 4, 2, 172]
abbrev dktX2_nameOf_9 : List UInt8 := dkwX2_nameOf_9 ++ []
def dkwX2_nameOf_8 : List UInt8 := [180, 0, 142, 16, 111, 16, 116, 16, 111, 16, 119, 16, 110, 184, 0, 150, 148, 154, 0, 8, 16, 7]
abbrev dktX2_nameOf_8 : List UInt8 := dkwX2_nameOf_8 ++ dktX2_nameOf_9
def dkwX2_nameOf_7 : List UInt8 := [121, 16, 105, 16, 103, 16, 104, 16, 116, 184, 0, 173, 129, 148, 154, 0, 8, 16, 6, 167, 0, 30, 42]
abbrev dktX2_nameOf_7 : List UInt8 := dkwX2_nameOf_7 ++ dktX2_nameOf_8
def dkwX2_nameOf_6 : List UInt8 := [184, 0, 150, 148, 154, 0, 5, 8, 172, 42, 180, 0, 142, 16, 111, 16, 119, 16, 101, 184, 0, 146, 16, 32]
abbrev dktX2_nameOf_6 : List UInt8 := dkwX2_nameOf_6 ++ dktX2_nameOf_7
def dkwX2_nameOf_5 : List UInt8 := [184, 0, 173, 148, 154, 0, 5, 7, 172, 42, 180, 0, 142, 16, 111, 16, 115, 16, 111, 16, 114, 16, 116]
abbrev dktX2_nameOf_5 : List UInt8 := dkwX2_nameOf_5 ++ dktX2_nameOf_6
def dkwX2_nameOf_4 : List UInt8 := [16, 115, 184, 0, 177, 148, 154, 0, 5, 6, 172, 42, 180, 0, 142, 16, 121, 16, 101, 16, 97, 16, 114]
abbrev dktX2_nameOf_4 : List UInt8 := dkwX2_nameOf_4 ++ dktX2_nameOf_5
def dkwX2_nameOf_3 : List UInt8 := [184, 0, 173, 148, 154, 0, 5, 5, 172, 42, 180, 0, 142, 16, 112, 16, 114, 16, 111, 16, 111, 16, 102]
abbrev dktX2_nameOf_3 : List UInt8 := dkwX2_nameOf_3 ++ dktX2_nameOf_4
def dkwX2_nameOf_2 : List UInt8 := [16, 116, 184, 0, 177, 148, 154, 0, 5, 4, 172, 42, 180, 0, 142, 16, 116, 16, 111, 16, 119, 16, 110]
abbrev dktX2_nameOf_2 : List UInt8 := dkwX2_nameOf_2 ++ dktX2_nameOf_3
def dkwX2_nameOf_1 : List UInt8 := [184, 0, 173, 148, 154, 0, 5, 3, 172, 42, 180, 0, 142, 16, 119, 16, 101, 16, 105, 16, 103, 16, 104]
abbrev dktX2_nameOf_1 : List UInt8 := dkwX2_nameOf_1 ++ dktX2_nameOf_2
def dkwX2_nameOf_0 : List UInt8 := [42, 180, 0, 129, 5, 159, 0, 5, 2, 172, 42, 180, 0, 142, 16, 115, 16, 111, 16, 114, 16, 116]
abbrev dktX2_nameOf_0 : List UInt8 := dkwX2_nameOf_0 ++ dktX2_nameOf_1
theorem dksX2_nameOf_0 : cX2_nameOf.data.toList.drop 0 = dktX2_nameOf_0 := by decide +kernel
theorem dksX2_nameOf_1 : cX2_nameOf.data.toList.drop 22 = dktX2_nameOf_1 := dk_seg dksX2_nameOf_0 22 rfl rfl
theorem dksX2_nameOf_2 : cX2_nameOf.data.toList.drop 45 = dktX2_nameOf_2 := dk_seg dksX2_nameOf_1 23 rfl rfl
theorem dksX2_nameOf_3 : cX2_nameOf.data.toList.drop 68 = dktX2_nameOf_3 := dk_seg dksX2_nameOf_2 23 rfl rfl
theorem dksX2_nameOf_4 : cX2_nameOf.data.toList.drop 91 = dktX2_nameOf_4 := dk_seg dksX2_nameOf_3 23 rfl rfl
theorem dksX2_nameOf_5 : cX2_nameOf.data.toList.drop 114 = dktX2_nameOf_5 := dk_seg dksX2_nameOf_4 23 rfl rfl
theorem dksX2_nameOf_6 : cX2_nameOf.data.toList.drop 137 = dktX2_nameOf_6 := dk_seg dksX2_nameOf_5 23 rfl rfl
theorem dksX2_nameOf_7 : cX2_nameOf.data.toList.drop 161 = dktX2_nameOf_7 := dk_seg dksX2_nameOf_6 24 rfl rfl
theorem dksX2_nameOf_8 : cX2_nameOf.data.toList.drop 184 = dktX2_nameOf_8 := dk_seg dksX2_nameOf_7 23 rfl rfl
theorem dksX2_nameOf_9 : cX2_nameOf.data.toList.drop 206 = dktX2_nameOf_9 := dk_seg dksX2_nameOf_8 22 rfl rfl
theorem dX2_nameOf_0 : decode cX2_nameOf 0 = .ok (.aload_n 0, 1) := dk_42 (dk_at dksX2_nameOf_0 0 rfl rfl)
theorem dX2_nameOf_1 : decode cX2_nameOf 1 = .ok (.getfield 129, 3) := dk_180 0 129 (dk_at dksX2_nameOf_0 1 rfl rfl)
theorem dX2_nameOf_4 : decode cX2_nameOf 4 = .ok (.iconst 2, 1) := dk_5 (dk_at dksX2_nameOf_0 4 rfl rfl)
theorem dX2_nameOf_5 : decode cX2_nameOf 5 = .ok (.if_icmp .eq 5, 3) := dk_159 0 5 (dk_at dksX2_nameOf_0 5 rfl rfl)
theorem dX2_nameOf_8 : decode cX2_nameOf 8 = .ok (.iconst (-1), 1) := dk_2 (dk_at dksX2_nameOf_0 8 rfl rfl)
theorem dX2_nameOf_9 : decode cX2_nameOf 9 = .ok (.ireturn, 1) := dk_172 (dk_at dksX2_nameOf_0 9 rfl rfl)
theorem dX2_nameOf_10 : decode cX2_nameOf 10 = .ok (.aload_n 0, 1) := dk_42 (dk_at dksX2_nameOf_0 10 rfl rfl)
theorem dX2_nameOf_11 : decode cX2_nameOf 11 = .ok (.getfield 142, 3) := dk_180 0 142 (dk_at dksX2_nameOf_0 11 rfl rfl)
theorem dX2_nameOf_14 : decode cX2_nameOf 14 = .ok (.bipush 115, 2) := dk_16 115 (dk_at dksX2_nameOf_0 14 rfl rfl)
theorem dX2_nameOf_16 : decode cX2_nameOf 16 = .ok (.bipush 111, 2) := dk_16 111 (dk_at dksX2_nameOf_0 16 rfl rfl)
theorem dX2_nameOf_18 : decode cX2_nameOf 18 = .ok (.bipush 114, 2) := dk_16 114 (dk_at dksX2_nameOf_0 18 rfl rfl)
theorem dX2_nameOf_20 : decode cX2_nameOf 20 = .ok (.bipush 116, 2) := dk_16 116 (dk_at dksX2_nameOf_0 20 rfl rfl)
theorem dX2_nameOf_22 : decode cX2_nameOf 22 = .ok (.invokestatic 173, 3) := dk_184 0 173 (dk_at dksX2_nameOf_1 0 rfl rfl)
theorem dX2_nameOf_25 : decode cX2_nameOf 25 = .ok (.lcmp, 1) := dk_148 (dk_at dksX2_nameOf_1 3 rfl rfl)
theorem dX2_nameOf_26 : decode cX2_nameOf 26 = .ok (.ifCond .ne 5, 3) := dk_154 0 5 (dk_at dksX2_nameOf_1 4 rfl rfl)
theorem dX2_nameOf_29 : decode cX2_nameOf 29 = .ok (.iconst 0, 1) := dk_3 (dk_at dksX2_nameOf_1 7 rfl rfl)
theorem dX2_nameOf_30 : decode cX2_nameOf 30 = .ok (.ireturn, 1) := dk_172 (dk_at dksX2_nameOf_1 8 rfl rfl)
theorem dX2_nameOf_31 : decode cX2_nameOf 31 = .ok (.aload_n 0, 1) := dk_42 (dk_at dksX2_nameOf_1 9 rfl rfl)
theorem dX2_nameOf_32 : decode cX2_nameOf 32 = .ok (.getfield 142, 3) := dk_180 0 142 (dk_at dksX2_nameOf_1 10 rfl rfl)
theorem dX2_nameOf_35 : decode cX2_nameOf 35 = .ok (.bipush 119, 2) := dk_16 119 (dk_at dksX2_nameOf_1 13 rfl rfl)
theorem dX2_nameOf_37 : decode cX2_nameOf 37 = .ok (.bipush 101, 2) := dk_16 101 (dk_at dksX2_nameOf_1 15 rfl rfl)
theorem dX2_nameOf_39 : decode cX2_nameOf 39 = .ok (.bipush 105, 2) := dk_16 105 (dk_at dksX2_nameOf_1 17 rfl rfl)
theorem dX2_nameOf_41 : decode cX2_nameOf 41 = .ok (.bipush 103, 2) := dk_16 103 (dk_at dksX2_nameOf_1 19 rfl rfl)
theorem dX2_nameOf_43 : decode cX2_nameOf 43 = .ok (.bipush 104, 2) := dk_16 104 (dk_at dksX2_nameOf_1 21 rfl rfl)
theorem dX2_nameOf_45 : decode cX2_nameOf 45 = .ok (.bipush 116, 2) := dk_16 116 (dk_at dksX2_nameOf_2 0 rfl rfl)
theorem dX2_nameOf_47 : decode cX2_nameOf 47 = .ok (.invokestatic 177, 3) := dk_184 0 177 (dk_at dksX2_nameOf_2 2 rfl rfl)
theorem dX2_nameOf_50 : decode cX2_nameOf 50 = .ok (.lcmp, 1) := dk_148 (dk_at dksX2_nameOf_2 5 rfl rfl)
theorem dX2_nameOf_51 : decode cX2_nameOf 51 = .ok (.ifCond .ne 5, 3) := dk_154 0 5 (dk_at dksX2_nameOf_2 6 rfl rfl)
theorem dX2_nameOf_54 : decode cX2_nameOf 54 = .ok (.iconst 1, 1) := dk_4 (dk_at dksX2_nameOf_2 9 rfl rfl)
theorem dX2_nameOf_55 : decode cX2_nameOf 55 = .ok (.ireturn, 1) := dk_172 (dk_at dksX2_nameOf_2 10 rfl rfl)
theorem dX2_nameOf_56 : decode cX2_nameOf 56 = .ok (.aload_n 0, 1) := dk_42 (dk_at dksX2_nameOf_2 11 rfl rfl)
theorem dX2_nameOf_57 : decode cX2_nameOf 57 = .ok (.getfield 142, 3) := dk_180 0 142 (dk_at dksX2_nameOf_2 12 rfl rfl)
theorem dX2_nameOf_60 : decode cX2_nameOf 60 = .ok (.bipush 116, 2) := dk_16 116 (dk_at dksX2_nameOf_2 15 rfl rfl)
theorem dX2_nameOf_62 : decode cX2_nameOf 62 = .ok (.bipush 111, 2) := dk_16 111 (dk_at dksX2_nameOf_2 17 rfl rfl)
theorem dX2_nameOf_64 : decode cX2_nameOf 64 = .ok (.bipush 119, 2) := dk_16 119 (dk_at dksX2_nameOf_2 19 rfl rfl)
theorem dX2_nameOf_66 : decode cX2_nameOf 66 = .ok (.bipush 110, 2) := dk_16 110 (dk_at dksX2_nameOf_2 21 rfl rfl)
theorem dX2_nameOf_68 : decode cX2_nameOf 68 = .ok (.invokestatic 173, 3) := dk_184 0 173 (dk_at dksX2_nameOf_3 0 rfl rfl)
theorem dX2_nameOf_71 : decode cX2_nameOf 71 = .ok (.lcmp, 1) := dk_148 (dk_at dksX2_nameOf_3 3 rfl rfl)
theorem dX2_nameOf_72 : decode cX2_nameOf 72 = .ok (.ifCond .ne 5, 3) := dk_154 0 5 (dk_at dksX2_nameOf_3 4 rfl rfl)
theorem dX2_nameOf_75 : decode cX2_nameOf 75 = .ok (.iconst 2, 1) := dk_5 (dk_at dksX2_nameOf_3 7 rfl rfl)
theorem dX2_nameOf_76 : decode cX2_nameOf 76 = .ok (.ireturn, 1) := dk_172 (dk_at dksX2_nameOf_3 8 rfl rfl)
theorem dX2_nameOf_77 : decode cX2_nameOf 77 = .ok (.aload_n 0, 1) := dk_42 (dk_at dksX2_nameOf_3 9 rfl rfl)
theorem dX2_nameOf_78 : decode cX2_nameOf 78 = .ok (.getfield 142, 3) := dk_180 0 142 (dk_at dksX2_nameOf_3 10 rfl rfl)
theorem dX2_nameOf_81 : decode cX2_nameOf 81 = .ok (.bipush 112, 2) := dk_16 112 (dk_at dksX2_nameOf_3 13 rfl rfl)
theorem dX2_nameOf_83 : decode cX2_nameOf 83 = .ok (.bipush 114, 2) := dk_16 114 (dk_at dksX2_nameOf_3 15 rfl rfl)
theorem dX2_nameOf_85 : decode cX2_nameOf 85 = .ok (.bipush 111, 2) := dk_16 111 (dk_at dksX2_nameOf_3 17 rfl rfl)
theorem dX2_nameOf_87 : decode cX2_nameOf 87 = .ok (.bipush 111, 2) := dk_16 111 (dk_at dksX2_nameOf_3 19 rfl rfl)
theorem dX2_nameOf_89 : decode cX2_nameOf 89 = .ok (.bipush 102, 2) := dk_16 102 (dk_at dksX2_nameOf_3 21 rfl rfl)
theorem dX2_nameOf_91 : decode cX2_nameOf 91 = .ok (.bipush 115, 2) := dk_16 115 (dk_at dksX2_nameOf_4 0 rfl rfl)
theorem dX2_nameOf_93 : decode cX2_nameOf 93 = .ok (.invokestatic 177, 3) := dk_184 0 177 (dk_at dksX2_nameOf_4 2 rfl rfl)
theorem dX2_nameOf_96 : decode cX2_nameOf 96 = .ok (.lcmp, 1) := dk_148 (dk_at dksX2_nameOf_4 5 rfl rfl)
theorem dX2_nameOf_97 : decode cX2_nameOf 97 = .ok (.ifCond .ne 5, 3) := dk_154 0 5 (dk_at dksX2_nameOf_4 6 rfl rfl)
theorem dX2_nameOf_100 : decode cX2_nameOf 100 = .ok (.iconst 3, 1) := dk_6 (dk_at dksX2_nameOf_4 9 rfl rfl)
theorem dX2_nameOf_101 : decode cX2_nameOf 101 = .ok (.ireturn, 1) := dk_172 (dk_at dksX2_nameOf_4 10 rfl rfl)
theorem dX2_nameOf_102 : decode cX2_nameOf 102 = .ok (.aload_n 0, 1) := dk_42 (dk_at dksX2_nameOf_4 11 rfl rfl)
theorem dX2_nameOf_103 : decode cX2_nameOf 103 = .ok (.getfield 142, 3) := dk_180 0 142 (dk_at dksX2_nameOf_4 12 rfl rfl)
theorem dX2_nameOf_106 : decode cX2_nameOf 106 = .ok (.bipush 121, 2) := dk_16 121 (dk_at dksX2_nameOf_4 15 rfl rfl)
theorem dX2_nameOf_108 : decode cX2_nameOf 108 = .ok (.bipush 101, 2) := dk_16 101 (dk_at dksX2_nameOf_4 17 rfl rfl)
theorem dX2_nameOf_110 : decode cX2_nameOf 110 = .ok (.bipush 97, 2) := dk_16 97 (dk_at dksX2_nameOf_4 19 rfl rfl)
theorem dX2_nameOf_112 : decode cX2_nameOf 112 = .ok (.bipush 114, 2) := dk_16 114 (dk_at dksX2_nameOf_4 21 rfl rfl)
theorem dX2_nameOf_114 : decode cX2_nameOf 114 = .ok (.invokestatic 173, 3) := dk_184 0 173 (dk_at dksX2_nameOf_5 0 rfl rfl)
theorem dX2_nameOf_117 : decode cX2_nameOf 117 = .ok (.lcmp, 1) := dk_148 (dk_at dksX2_nameOf_5 3 rfl rfl)
theorem dX2_nameOf_118 : decode cX2_nameOf 118 = .ok (.ifCond .ne 5, 3) := dk_154 0 5 (dk_at dksX2_nameOf_5 4 rfl rfl)
theorem dX2_nameOf_121 : decode cX2_nameOf 121 = .ok (.iconst 4, 1) := dk_7 (dk_at dksX2_nameOf_5 7 rfl rfl)
theorem dX2_nameOf_122 : decode cX2_nameOf 122 = .ok (.ireturn, 1) := dk_172 (dk_at dksX2_nameOf_5 8 rfl rfl)
theorem dX2_nameOf_123 : decode cX2_nameOf 123 = .ok (.aload_n 0, 1) := dk_42 (dk_at dksX2_nameOf_5 9 rfl rfl)
theorem dX2_nameOf_124 : decode cX2_nameOf 124 = .ok (.getfield 142, 3) := dk_180 0 142 (dk_at dksX2_nameOf_5 10 rfl rfl)
theorem dX2_nameOf_127 : decode cX2_nameOf 127 = .ok (.bipush 111, 2) := dk_16 111 (dk_at dksX2_nameOf_5 13 rfl rfl)
theorem dX2_nameOf_129 : decode cX2_nameOf 129 = .ok (.bipush 115, 2) := dk_16 115 (dk_at dksX2_nameOf_5 15 rfl rfl)
theorem dX2_nameOf_131 : decode cX2_nameOf 131 = .ok (.bipush 111, 2) := dk_16 111 (dk_at dksX2_nameOf_5 17 rfl rfl)
theorem dX2_nameOf_133 : decode cX2_nameOf 133 = .ok (.bipush 114, 2) := dk_16 114 (dk_at dksX2_nameOf_5 19 rfl rfl)
theorem dX2_nameOf_135 : decode cX2_nameOf 135 = .ok (.bipush 116, 2) := dk_16 116 (dk_at dksX2_nameOf_5 21 rfl rfl)
theorem dX2_nameOf_137 : decode cX2_nameOf 137 = .ok (.invokestatic 150, 3) := dk_184 0 150 (dk_at dksX2_nameOf_6 0 rfl rfl)
theorem dX2_nameOf_140 : decode cX2_nameOf 140 = .ok (.lcmp, 1) := dk_148 (dk_at dksX2_nameOf_6 3 rfl rfl)
theorem dX2_nameOf_141 : decode cX2_nameOf 141 = .ok (.ifCond .ne 5, 3) := dk_154 0 5 (dk_at dksX2_nameOf_6 4 rfl rfl)
theorem dX2_nameOf_144 : decode cX2_nameOf 144 = .ok (.iconst 5, 1) := dk_8 (dk_at dksX2_nameOf_6 7 rfl rfl)
theorem dX2_nameOf_145 : decode cX2_nameOf 145 = .ok (.ireturn, 1) := dk_172 (dk_at dksX2_nameOf_6 8 rfl rfl)
theorem dX2_nameOf_146 : decode cX2_nameOf 146 = .ok (.aload_n 0, 1) := dk_42 (dk_at dksX2_nameOf_6 9 rfl rfl)
theorem dX2_nameOf_147 : decode cX2_nameOf 147 = .ok (.getfield 142, 3) := dk_180 0 142 (dk_at dksX2_nameOf_6 10 rfl rfl)
theorem dX2_nameOf_150 : decode cX2_nameOf 150 = .ok (.bipush 111, 2) := dk_16 111 (dk_at dksX2_nameOf_6 13 rfl rfl)
theorem dX2_nameOf_152 : decode cX2_nameOf 152 = .ok (.bipush 119, 2) := dk_16 119 (dk_at dksX2_nameOf_6 15 rfl rfl)
theorem dX2_nameOf_154 : decode cX2_nameOf 154 = .ok (.bipush 101, 2) := dk_16 101 (dk_at dksX2_nameOf_6 17 rfl rfl)
theorem dX2_nameOf_156 : decode cX2_nameOf 156 = .ok (.invokestatic 146, 3) := dk_184 0 146 (dk_at dksX2_nameOf_6 19 rfl rfl)
theorem dX2_nameOf_159 : decode cX2_nameOf 159 = .ok (.bipush 32, 2) := dk_16 32 (dk_at dksX2_nameOf_6 22 rfl rfl)
theorem dX2_nameOf_161 : decode cX2_nameOf 161 = .ok (.lshl, 1) := dk_121 (dk_at dksX2_nameOf_7 0 rfl rfl)
theorem dX2_nameOf_162 : decode cX2_nameOf 162 = .ok (.bipush 105, 2) := dk_16 105 (dk_at dksX2_nameOf_7 1 rfl rfl)
theorem dX2_nameOf_164 : decode cX2_nameOf 164 = .ok (.bipush 103, 2) := dk_16 103 (dk_at dksX2_nameOf_7 3 rfl rfl)
theorem dX2_nameOf_166 : decode cX2_nameOf 166 = .ok (.bipush 104, 2) := dk_16 104 (dk_at dksX2_nameOf_7 5 rfl rfl)
theorem dX2_nameOf_168 : decode cX2_nameOf 168 = .ok (.bipush 116, 2) := dk_16 116 (dk_at dksX2_nameOf_7 7 rfl rfl)
theorem dX2_nameOf_170 : decode cX2_nameOf 170 = .ok (.invokestatic 173, 3) := dk_184 0 173 (dk_at dksX2_nameOf_7 9 rfl rfl)
theorem dX2_nameOf_173 : decode cX2_nameOf 173 = .ok (.lor, 1) := dk_129 (dk_at dksX2_nameOf_7 12 rfl rfl)
theorem dX2_nameOf_174 : decode cX2_nameOf 174 = .ok (.lcmp, 1) := dk_148 (dk_at dksX2_nameOf_7 13 rfl rfl)
theorem dX2_nameOf_175 : decode cX2_nameOf 175 = .ok (.ifCond .ne 8, 3) := dk_154 0 8 (dk_at dksX2_nameOf_7 14 rfl rfl)
theorem dX2_nameOf_178 : decode cX2_nameOf 178 = .ok (.bipush 6, 2) := dk_16 6 (dk_at dksX2_nameOf_7 17 rfl rfl)
theorem dX2_nameOf_180 : decode cX2_nameOf 180 = .ok (.goto 30, 3) := dk_167 0 30 (dk_at dksX2_nameOf_7 19 rfl rfl)
theorem dX2_nameOf_183 : decode cX2_nameOf 183 = .ok (.aload_n 0, 1) := dk_42 (dk_at dksX2_nameOf_7 22 rfl rfl)
theorem dX2_nameOf_184 : decode cX2_nameOf 184 = .ok (.getfield 142, 3) := dk_180 0 142 (dk_at dksX2_nameOf_8 0 rfl rfl)
theorem dX2_nameOf_187 : decode cX2_nameOf 187 = .ok (.bipush 111, 2) := dk_16 111 (dk_at dksX2_nameOf_8 3 rfl rfl)
theorem dX2_nameOf_189 : decode cX2_nameOf 189 = .ok (.bipush 116, 2) := dk_16 116 (dk_at dksX2_nameOf_8 5 rfl rfl)
theorem dX2_nameOf_191 : decode cX2_nameOf 191 = .ok (.bipush 111, 2) := dk_16 111 (dk_at dksX2_nameOf_8 7 rfl rfl)
theorem dX2_nameOf_193 : decode cX2_nameOf 193 = .ok (.bipush 119, 2) := dk_16 119 (dk_at dksX2_nameOf_8 9 rfl rfl)
theorem dX2_nameOf_195 : decode cX2_nameOf 195 = .ok (.bipush 110, 2) := dk_16 110 (dk_at dksX2_nameOf_8 11 rfl rfl)
theorem dX2_nameOf_197 : decode cX2_nameOf 197 = .ok (.invokestatic 150, 3) := dk_184 0 150 (dk_at dksX2_nameOf_8 13 rfl rfl)
theorem dX2_nameOf_200 : decode cX2_nameOf 200 = .ok (.lcmp, 1) := dk_148 (dk_at dksX2_nameOf_8 16 rfl rfl)
theorem dX2_nameOf_201 : decode cX2_nameOf 201 = .ok (.ifCond .ne 8, 3) := dk_154 0 8 (dk_at dksX2_nameOf_8 17 rfl rfl)
theorem dX2_nameOf_204 : decode cX2_nameOf 204 = .ok (.bipush 7, 2) := dk_16 7 (dk_at dksX2_nameOf_8 20 rfl rfl)
theorem dX2_nameOf_206 : decode cX2_nameOf 206 = .ok (.goto 4, 3) := dk_167 0 4 (dk_at dksX2_nameOf_9 0 rfl rfl)
theorem dX2_nameOf_209 : decode cX2_nameOf 209 = .ok (.iconst (-1), 1) := dk_2 (dk_at dksX2_nameOf_9 3 rfl rfl)
theorem dX2_nameOf_210 : decode cX2_nameOf 210 = .ok (.ireturn, 1) := dk_172 (dk_at dksX2_nameOf_9 4 rfl rfl)
def dkwX2_isBarred_0 : List UInt8 := [27, 7, 164, 0, 15, 42, 180, 0, 181, 5, 159, 0, 7, 4, 167, 0, 4, 3, 172]
abbrev dktX2_isBarred_0 : List UInt8 := dkwX2_isBarred_0 ++ []
theorem dksX2_isBarred_0 : cX2_isBarred.data.toList.drop 0 = dktX2_isBarred_0 := by decide +kernel
theorem dX2_isBarred_0 : decode cX2_isBarred 0 = .ok (.iload_n 1, 1) := dk_27 (dk_at dksX2_isBarred_0 0 rfl rfl)
theorem dX2_isBarred_1 : decode cX2_isBarred 1 = .ok (.iconst 4, 1) := dk_7 (dk_at dksX2_isBarred_0 1 rfl rfl)
theorem dX2_isBarred_2 : decode cX2_isBarred 2 = .ok (.if_icmp .le 15, 3) := dk_164 0 15 (dk_at dksX2_isBarred_0 2 rfl rfl)
theorem dX2_isBarred_5 : decode cX2_isBarred 5 = .ok (.aload_n 0, 1) := dk_42 (dk_at dksX2_isBarred_0 5 rfl rfl)
theorem dX2_isBarred_6 : decode cX2_isBarred 6 = .ok (.getfield 181, 3) := dk_180 0 181 (dk_at dksX2_isBarred_0 6 rfl rfl)
theorem dX2_isBarred_9 : decode cX2_isBarred 9 = .ok (.iconst 2, 1) := dk_5 (dk_at dksX2_isBarred_0 9 rfl rfl)
theorem dX2_isBarred_10 : decode cX2_isBarred 10 = .ok (.if_icmp .eq 7, 3) := dk_159 0 7 (dk_at dksX2_isBarred_0 10 rfl rfl)
theorem dX2_isBarred_13 : decode cX2_isBarred 13 = .ok (.iconst 1, 1) := dk_4 (dk_at dksX2_isBarred_0 13 rfl rfl)
theorem dX2_isBarred_14 : decode cX2_isBarred 14 = .ok (.goto 4, 3) := dk_167 0 4 (dk_at dksX2_isBarred_0 14 rfl rfl)
theorem dX2_isBarred_17 : decode cX2_isBarred 17 = .ok (.iconst 0, 1) := dk_3 (dk_at dksX2_isBarred_0 17 rfl rfl)
theorem dX2_isBarred_18 : decode cX2_isBarred 18 = .ok (.ireturn, 1) := dk_172 (dk_at dksX2_isBarred_0 18 rfl rfl)
def dkwX2_either_5 : List UInt8 := [167, 255, 146, 3, 172]
abbrev dktX2_either_5 : List UInt8 := dkwX2_either_5 ++ []
def dkwX2_either_4 : List UInt8 := [154, 0, 8, 21, 5, 153, 0, 7, 4, 167, 0, 4, 3, 62, 29, 153, 0, 7, 42, 182, 0, 184]
abbrev dktX2_either_4 : List UInt8 := dkwX2_either_4 ++ dktX2_either_5
def dkwX2_either_3 : List UInt8 := [3, 54, 5, 27, 154, 0, 17, 28, 153, 0, 10, 42, 16, 22, 3, 182, 0, 170, 21, 5, 61, 27]
abbrev dktX2_either_3 : List UInt8 := dkwX2_either_3 ++ dktX2_either_4
def dkwX2_either_2 : List UInt8 := [60, 42, 180, 0, 129, 5, 160, 0, 18, 42, 180, 0, 142, 20, 0, 229, 148, 154, 0, 7, 4, 167, 0, 4]
abbrev dktX2_either_2 : List UInt8 := dkwX2_either_2 ++ dktX2_either_3
def dkwX2_either_1 : List UInt8 := [27, 153, 0, 10, 42, 16, 21, 3, 182, 0, 170, 42, 16, 97, 16, 110, 16, 100, 184, 0, 146, 182, 0, 216]
abbrev dktX2_either_1 : List UInt8 := dkwX2_either_1 ++ dktX2_either_2
def dkwX2_either_0 : List UInt8 := [3, 60, 3, 61, 4, 62, 29, 153, 0, 112, 42, 182, 0, 226, 54, 4, 21, 4, 153, 0, 6, 21, 4, 172]
abbrev dktX2_either_0 : List UInt8 := dkwX2_either_0 ++ dktX2_either_1
theorem dksX2_either_0 : cX2_either.data.toList.drop 0 = dktX2_either_0 := by decide +kernel
theorem dksX2_either_1 : cX2_either.data.toList.drop 24 = dktX2_either_1 := dk_seg dksX2_either_0 24 rfl rfl
theorem dksX2_either_2 : cX2_either.data.toList.drop 48 = dktX2_either_2 := dk_seg dksX2_either_1 24 rfl rfl
theorem dksX2_either_3 : cX2_either.data.toList.drop 72 = dktX2_either_3 := dk_seg dksX2_either_2 24 rfl rfl
theorem dksX2_either_4 : cX2_either.data.toList.drop 94 = dktX2_either_4 := dk_seg dksX2_either_3 22 rfl rfl
theorem dksX2_either_5 : cX2_either.data.toList.drop 116 = dktX2_either_5 := dk_seg dksX2_either_4 22 rfl rfl
theorem dX2_either_0 : decode cX2_either 0 = .ok (.iconst 0, 1) := dk_3 (dk_at dksX2_either_0 0 rfl rfl)
theorem dX2_either_1 : decode cX2_either 1 = .ok (.istore_n 1, 1) := dk_60 (dk_at dksX2_either_0 1 rfl rfl)
theorem dX2_either_2 : decode cX2_either 2 = .ok (.iconst 0, 1) := dk_3 (dk_at dksX2_either_0 2 rfl rfl)
theorem dX2_either_3 : decode cX2_either 3 = .ok (.istore_n 2, 1) := dk_61 (dk_at dksX2_either_0 3 rfl rfl)
theorem dX2_either_4 : decode cX2_either 4 = .ok (.iconst 1, 1) := dk_4 (dk_at dksX2_either_0 4 rfl rfl)
theorem dX2_either_5 : decode cX2_either 5 = .ok (.istore_n 3, 1) := dk_62 (dk_at dksX2_either_0 5 rfl rfl)
theorem dX2_either_6 : decode cX2_either 6 = .ok (.iload_n 3, 1) := dk_29 (dk_at dksX2_either_0 6 rfl rfl)
theorem dX2_either_7 : decode cX2_either 7 = .ok (.ifCond .eq 112, 3) := dk_153 0 112 (dk_at dksX2_either_0 7 rfl rfl)
theorem dX2_either_10 : decode cX2_either 10 = .ok (.aload_n 0, 1) := dk_42 (dk_at dksX2_either_0 10 rfl rfl)
theorem dX2_either_11 : decode cX2_either 11 = .ok (.invokevirtual 226, 3) := dk_182 0 226 (dk_at dksX2_either_0 11 rfl rfl)
theorem dX2_either_14 : decode cX2_either 14 = .ok (.istore 4, 2) := dk_54 4 (dk_at dksX2_either_0 14 rfl rfl)
theorem dX2_either_16 : decode cX2_either 16 = .ok (.iload 4, 2) := dk_21 4 (dk_at dksX2_either_0 16 rfl rfl)
theorem dX2_either_18 : decode cX2_either 18 = .ok (.ifCond .eq 6, 3) := dk_153 0 6 (dk_at dksX2_either_0 18 rfl rfl)
theorem dX2_either_21 : decode cX2_either 21 = .ok (.iload 4, 2) := dk_21 4 (dk_at dksX2_either_0 21 rfl rfl)
theorem dX2_either_23 : decode cX2_either 23 = .ok (.ireturn, 1) := dk_172 (dk_at dksX2_either_0 23 rfl rfl)
theorem dX2_either_24 : decode cX2_either 24 = .ok (.iload_n 1, 1) := dk_27 (dk_at dksX2_either_1 0 rfl rfl)
theorem dX2_either_25 : decode cX2_either 25 = .ok (.ifCond .eq 10, 3) := dk_153 0 10 (dk_at dksX2_either_1 1 rfl rfl)
theorem dX2_either_28 : decode cX2_either 28 = .ok (.aload_n 0, 1) := dk_42 (dk_at dksX2_either_1 4 rfl rfl)
theorem dX2_either_29 : decode cX2_either 29 = .ok (.bipush 21, 2) := dk_16 21 (dk_at dksX2_either_1 5 rfl rfl)
theorem dX2_either_31 : decode cX2_either 31 = .ok (.iconst 0, 1) := dk_3 (dk_at dksX2_either_1 7 rfl rfl)
theorem dX2_either_32 : decode cX2_either 32 = .ok (.invokevirtual 170, 3) := dk_182 0 170 (dk_at dksX2_either_1 8 rfl rfl)
theorem dX2_either_35 : decode cX2_either 35 = .ok (.aload_n 0, 1) := dk_42 (dk_at dksX2_either_1 11 rfl rfl)
theorem dX2_either_36 : decode cX2_either 36 = .ok (.bipush 97, 2) := dk_16 97 (dk_at dksX2_either_1 12 rfl rfl)
theorem dX2_either_38 : decode cX2_either 38 = .ok (.bipush 110, 2) := dk_16 110 (dk_at dksX2_either_1 14 rfl rfl)
theorem dX2_either_40 : decode cX2_either 40 = .ok (.bipush 100, 2) := dk_16 100 (dk_at dksX2_either_1 16 rfl rfl)
theorem dX2_either_42 : decode cX2_either 42 = .ok (.invokestatic 146, 3) := dk_184 0 146 (dk_at dksX2_either_1 18 rfl rfl)
theorem dX2_either_45 : decode cX2_either 45 = .ok (.invokevirtual 216, 3) := dk_182 0 216 (dk_at dksX2_either_1 21 rfl rfl)
theorem dX2_either_48 : decode cX2_either 48 = .ok (.istore_n 1, 1) := dk_60 (dk_at dksX2_either_2 0 rfl rfl)
theorem dX2_either_49 : decode cX2_either 49 = .ok (.aload_n 0, 1) := dk_42 (dk_at dksX2_either_2 1 rfl rfl)
theorem dX2_either_50 : decode cX2_either 50 = .ok (.getfield 129, 3) := dk_180 0 129 (dk_at dksX2_either_2 2 rfl rfl)
theorem dX2_either_53 : decode cX2_either 53 = .ok (.iconst 2, 1) := dk_5 (dk_at dksX2_either_2 5 rfl rfl)
theorem dX2_either_54 : decode cX2_either 54 = .ok (.if_icmp .ne 18, 3) := dk_160 0 18 (dk_at dksX2_either_2 6 rfl rfl)
theorem dX2_either_57 : decode cX2_either 57 = .ok (.aload_n 0, 1) := dk_42 (dk_at dksX2_either_2 9 rfl rfl)
theorem dX2_either_58 : decode cX2_either 58 = .ok (.getfield 142, 3) := dk_180 0 142 (dk_at dksX2_either_2 10 rfl rfl)
theorem dX2_either_61 : decode cX2_either 61 = .ok (.ldc2_w 229, 3) := dk_20 0 229 (dk_at dksX2_either_2 13 rfl rfl)
theorem dX2_either_64 : decode cX2_either 64 = .ok (.lcmp, 1) := dk_148 (dk_at dksX2_either_2 16 rfl rfl)
theorem dX2_either_65 : decode cX2_either 65 = .ok (.ifCond .ne 7, 3) := dk_154 0 7 (dk_at dksX2_either_2 17 rfl rfl)
theorem dX2_either_68 : decode cX2_either 68 = .ok (.iconst 1, 1) := dk_4 (dk_at dksX2_either_2 20 rfl rfl)
theorem dX2_either_69 : decode cX2_either 69 = .ok (.goto 4, 3) := dk_167 0 4 (dk_at dksX2_either_2 21 rfl rfl)
theorem dX2_either_72 : decode cX2_either 72 = .ok (.iconst 0, 1) := dk_3 (dk_at dksX2_either_3 0 rfl rfl)
theorem dX2_either_73 : decode cX2_either 73 = .ok (.istore 5, 2) := dk_54 5 (dk_at dksX2_either_3 1 rfl rfl)
theorem dX2_either_75 : decode cX2_either 75 = .ok (.iload_n 1, 1) := dk_27 (dk_at dksX2_either_3 3 rfl rfl)
theorem dX2_either_76 : decode cX2_either 76 = .ok (.ifCond .ne 17, 3) := dk_154 0 17 (dk_at dksX2_either_3 4 rfl rfl)
theorem dX2_either_79 : decode cX2_either 79 = .ok (.iload_n 2, 1) := dk_28 (dk_at dksX2_either_3 7 rfl rfl)
theorem dX2_either_80 : decode cX2_either 80 = .ok (.ifCond .eq 10, 3) := dk_153 0 10 (dk_at dksX2_either_3 8 rfl rfl)
theorem dX2_either_83 : decode cX2_either 83 = .ok (.aload_n 0, 1) := dk_42 (dk_at dksX2_either_3 11 rfl rfl)
theorem dX2_either_84 : decode cX2_either 84 = .ok (.bipush 22, 2) := dk_16 22 (dk_at dksX2_either_3 12 rfl rfl)
theorem dX2_either_86 : decode cX2_either 86 = .ok (.iconst 0, 1) := dk_3 (dk_at dksX2_either_3 14 rfl rfl)
theorem dX2_either_87 : decode cX2_either 87 = .ok (.invokevirtual 170, 3) := dk_182 0 170 (dk_at dksX2_either_3 15 rfl rfl)
theorem dX2_either_90 : decode cX2_either 90 = .ok (.iload 5, 2) := dk_21 5 (dk_at dksX2_either_3 18 rfl rfl)
theorem dX2_either_92 : decode cX2_either 92 = .ok (.istore_n 2, 1) := dk_61 (dk_at dksX2_either_3 20 rfl rfl)
theorem dX2_either_93 : decode cX2_either 93 = .ok (.iload_n 1, 1) := dk_27 (dk_at dksX2_either_3 21 rfl rfl)
theorem dX2_either_94 : decode cX2_either 94 = .ok (.ifCond .ne 8, 3) := dk_154 0 8 (dk_at dksX2_either_4 0 rfl rfl)
theorem dX2_either_97 : decode cX2_either 97 = .ok (.iload 5, 2) := dk_21 5 (dk_at dksX2_either_4 3 rfl rfl)
theorem dX2_either_99 : decode cX2_either 99 = .ok (.ifCond .eq 7, 3) := dk_153 0 7 (dk_at dksX2_either_4 5 rfl rfl)
theorem dX2_either_102 : decode cX2_either 102 = .ok (.iconst 1, 1) := dk_4 (dk_at dksX2_either_4 8 rfl rfl)
theorem dX2_either_103 : decode cX2_either 103 = .ok (.goto 4, 3) := dk_167 0 4 (dk_at dksX2_either_4 9 rfl rfl)
theorem dX2_either_106 : decode cX2_either 106 = .ok (.iconst 0, 1) := dk_3 (dk_at dksX2_either_4 12 rfl rfl)
theorem dX2_either_107 : decode cX2_either 107 = .ok (.istore_n 3, 1) := dk_62 (dk_at dksX2_either_4 13 rfl rfl)
theorem dX2_either_108 : decode cX2_either 108 = .ok (.iload_n 3, 1) := dk_29 (dk_at dksX2_either_4 14 rfl rfl)
theorem dX2_either_109 : decode cX2_either 109 = .ok (.ifCond .eq 7, 3) := dk_153 0 7 (dk_at dksX2_either_4 15 rfl rfl)
theorem dX2_either_112 : decode cX2_either 112 = .ok (.aload_n 0, 1) := dk_42 (dk_at dksX2_either_4 18 rfl rfl)
theorem dX2_either_113 : decode cX2_either 113 = .ok (.invokevirtual 184, 3) := dk_182 0 184 (dk_at dksX2_either_4 19 rfl rfl)
theorem dX2_either_116 : decode cX2_either 116 = .ok (.goto (-110), 3) := dk_167 255 146 (dk_at dksX2_either_5 0 rfl rfl)
theorem dX2_either_119 : decode cX2_either 119 = .ok (.iconst 0, 1) := dk_3 (dk_at dksX2_either_5 3 rfl rfl)
theorem dX2_either_120 : decode cX2_either 120 = .ok (.ireturn, 1) := dk_172 (dk_at dksX2_either_5 4 rfl rfl)
