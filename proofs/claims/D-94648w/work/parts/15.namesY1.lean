set_option maxRecDepth 100000
def dkwX1_init_3 : List UInt8 := [180, 0, 9, 6, 2, 79, 42, 180, 0, 9, 16, 6, 4, 79, 42, 180, 0, 9, 16, 7, 16, 10, 79, 177]
abbrev dktX1_init_3 : List UInt8 := dkwX1_init_3 ++ []
def dkwX1_init_2 : List UInt8 := [181, 0, 26, 42, 16, 12, 7, 197, 0, 24, 2, 181, 0, 29, 42, 7, 189, 0, 32, 181, 0, 34, 42]
abbrev dktX1_init_2 : List UInt8 := dkwX1_init_2 ++ dktX1_init_3
def dkwX1_init_1 : List UInt8 := [188, 10, 181, 0, 18, 42, 16, 91, 188, 10, 181, 0, 21, 42, 16, 20, 16, 91, 197, 0, 24, 2]
abbrev dktX1_init_1 : List UInt8 := dkwX1_init_1 ++ dktX1_init_2
def dkwX1_init_0 : List UInt8 := [42, 183, 0, 3, 42, 16, 8, 188, 10, 181, 0, 9, 42, 16, 10, 188, 10, 181, 0, 15, 42, 16, 10]
abbrev dktX1_init_0 : List UInt8 := dkwX1_init_0 ++ dktX1_init_1
theorem dksX1_init_0 : cX1_init.data.toList.drop 0 = dktX1_init_0 := by decide +kernel
theorem dksX1_init_1 : cX1_init.data.toList.drop 23 = dktX1_init_1 := dk_seg dksX1_init_0 23 rfl rfl
theorem dksX1_init_2 : cX1_init.data.toList.drop 45 = dktX1_init_2 := dk_seg dksX1_init_1 22 rfl rfl
theorem dksX1_init_3 : cX1_init.data.toList.drop 68 = dktX1_init_3 := dk_seg dksX1_init_2 23 rfl rfl
theorem dX1_init_0 : decode cX1_init 0 = .ok (.aload_n 0, 1) := dk_42 (dk_at dksX1_init_0 0 rfl rfl)
theorem dX1_init_1 : decode cX1_init 1 = .ok (.invokespecial 3, 3) := dk_183 0 3 (dk_at dksX1_init_0 1 rfl rfl)
theorem dX1_init_4 : decode cX1_init 4 = .ok (.aload_n 0, 1) := dk_42 (dk_at dksX1_init_0 4 rfl rfl)
theorem dX1_init_5 : decode cX1_init 5 = .ok (.bipush 8, 2) := dk_16 8 (dk_at dksX1_init_0 5 rfl rfl)
theorem dX1_init_7 : decode cX1_init 7 = .ok (.newarray .int, 2) := dk_188_10 (dk_at dksX1_init_0 7 rfl rfl)
theorem dX1_init_9 : decode cX1_init 9 = .ok (.putfield 9, 3) := dk_181 0 9 (dk_at dksX1_init_0 9 rfl rfl)
theorem dX1_init_12 : decode cX1_init 12 = .ok (.aload_n 0, 1) := dk_42 (dk_at dksX1_init_0 12 rfl rfl)
theorem dX1_init_13 : decode cX1_init 13 = .ok (.bipush 10, 2) := dk_16 10 (dk_at dksX1_init_0 13 rfl rfl)
theorem dX1_init_15 : decode cX1_init 15 = .ok (.newarray .int, 2) := dk_188_10 (dk_at dksX1_init_0 15 rfl rfl)
theorem dX1_init_17 : decode cX1_init 17 = .ok (.putfield 15, 3) := dk_181 0 15 (dk_at dksX1_init_0 17 rfl rfl)
theorem dX1_init_20 : decode cX1_init 20 = .ok (.aload_n 0, 1) := dk_42 (dk_at dksX1_init_0 20 rfl rfl)
theorem dX1_init_21 : decode cX1_init 21 = .ok (.bipush 10, 2) := dk_16 10 (dk_at dksX1_init_0 21 rfl rfl)
theorem dX1_init_23 : decode cX1_init 23 = .ok (.newarray .int, 2) := dk_188_10 (dk_at dksX1_init_1 0 rfl rfl)
theorem dX1_init_25 : decode cX1_init 25 = .ok (.putfield 18, 3) := dk_181 0 18 (dk_at dksX1_init_1 2 rfl rfl)
theorem dX1_init_28 : decode cX1_init 28 = .ok (.aload_n 0, 1) := dk_42 (dk_at dksX1_init_1 5 rfl rfl)
theorem dX1_init_29 : decode cX1_init 29 = .ok (.bipush 91, 2) := dk_16 91 (dk_at dksX1_init_1 6 rfl rfl)
theorem dX1_init_31 : decode cX1_init 31 = .ok (.newarray .int, 2) := dk_188_10 (dk_at dksX1_init_1 8 rfl rfl)
theorem dX1_init_33 : decode cX1_init 33 = .ok (.putfield 21, 3) := dk_181 0 21 (dk_at dksX1_init_1 10 rfl rfl)
theorem dX1_init_36 : decode cX1_init 36 = .ok (.aload_n 0, 1) := dk_42 (dk_at dksX1_init_1 13 rfl rfl)
theorem dX1_init_37 : decode cX1_init 37 = .ok (.bipush 20, 2) := dk_16 20 (dk_at dksX1_init_1 14 rfl rfl)
theorem dX1_init_39 : decode cX1_init 39 = .ok (.bipush 91, 2) := dk_16 91 (dk_at dksX1_init_1 16 rfl rfl)
theorem dX1_init_41 : decode cX1_init 41 = .ok (.multianewarray 24 2, 4) := by decide +kernel
theorem dX1_init_45 : decode cX1_init 45 = .ok (.putfield 26, 3) := dk_181 0 26 (dk_at dksX1_init_2 0 rfl rfl)
theorem dX1_init_48 : decode cX1_init 48 = .ok (.aload_n 0, 1) := dk_42 (dk_at dksX1_init_2 3 rfl rfl)
theorem dX1_init_49 : decode cX1_init 49 = .ok (.bipush 12, 2) := dk_16 12 (dk_at dksX1_init_2 4 rfl rfl)
theorem dX1_init_51 : decode cX1_init 51 = .ok (.iconst 4, 1) := dk_7 (dk_at dksX1_init_2 6 rfl rfl)
theorem dX1_init_52 : decode cX1_init 52 = .ok (.multianewarray 24 2, 4) := by decide +kernel
theorem dX1_init_56 : decode cX1_init 56 = .ok (.putfield 29, 3) := dk_181 0 29 (dk_at dksX1_init_2 11 rfl rfl)
theorem dX1_init_59 : decode cX1_init 59 = .ok (.aload_n 0, 1) := dk_42 (dk_at dksX1_init_2 14 rfl rfl)
theorem dX1_init_60 : decode cX1_init 60 = .ok (.iconst 4, 1) := dk_7 (dk_at dksX1_init_2 15 rfl rfl)
theorem dX1_init_61 : decode cX1_init 61 = .ok (.anewarray 32, 3) := dk_189 0 32 (dk_at dksX1_init_2 16 rfl rfl)
theorem dX1_init_64 : decode cX1_init 64 = .ok (.putfield 34, 3) := dk_181 0 34 (dk_at dksX1_init_2 19 rfl rfl)
theorem dX1_init_67 : decode cX1_init 67 = .ok (.aload_n 0, 1) := dk_42 (dk_at dksX1_init_2 22 rfl rfl)
theorem dX1_init_68 : decode cX1_init 68 = .ok (.getfield 9, 3) := dk_180 0 9 (dk_at dksX1_init_3 0 rfl rfl)
theorem dX1_init_71 : decode cX1_init 71 = .ok (.iconst 3, 1) := dk_6 (dk_at dksX1_init_3 3 rfl rfl)
theorem dX1_init_72 : decode cX1_init 72 = .ok (.iconst (-1), 1) := dk_2 (dk_at dksX1_init_3 4 rfl rfl)
theorem dX1_init_73 : decode cX1_init 73 = .ok (.iastore, 1) := dk_79 (dk_at dksX1_init_3 5 rfl rfl)
theorem dX1_init_74 : decode cX1_init 74 = .ok (.aload_n 0, 1) := dk_42 (dk_at dksX1_init_3 6 rfl rfl)
theorem dX1_init_75 : decode cX1_init 75 = .ok (.getfield 9, 3) := dk_180 0 9 (dk_at dksX1_init_3 7 rfl rfl)
theorem dX1_init_78 : decode cX1_init 78 = .ok (.bipush 6, 2) := dk_16 6 (dk_at dksX1_init_3 10 rfl rfl)
theorem dX1_init_80 : decode cX1_init 80 = .ok (.iconst 1, 1) := dk_4 (dk_at dksX1_init_3 12 rfl rfl)
theorem dX1_init_81 : decode cX1_init 81 = .ok (.iastore, 1) := dk_79 (dk_at dksX1_init_3 13 rfl rfl)
theorem dX1_init_82 : decode cX1_init 82 = .ok (.aload_n 0, 1) := dk_42 (dk_at dksX1_init_3 14 rfl rfl)
theorem dX1_init_83 : decode cX1_init 83 = .ok (.getfield 9, 3) := dk_180 0 9 (dk_at dksX1_init_3 15 rfl rfl)
theorem dX1_init_86 : decode cX1_init 86 = .ok (.bipush 7, 2) := dk_16 7 (dk_at dksX1_init_3 18 rfl rfl)
theorem dX1_init_88 : decode cX1_init 88 = .ok (.bipush 10, 2) := dk_16 10 (dk_at dksX1_init_3 20 rfl rfl)
theorem dX1_init_90 : decode cX1_init 90 = .ok (.iastore, 1) := dk_79 (dk_at dksX1_init_3 22 rfl rfl)
theorem dX1_init_91 : decode cX1_init 91 = .ok (.return_, 1) := dk_177 (dk_at dksX1_init_3 23 rfl rfl)
def dkwX1_be_3 : List UInt8 := [180, 0, 34, 3, 42, 180, 0, 34, 3, 7, 184, 0, 38, 177]
abbrev dktX1_be_3 : List UInt8 := dkwX1_be_3 ++ []
def dkwX1_be_2 : List UInt8 := [180, 0, 26, 42, 180, 0, 26, 184, 0, 48, 43, 180, 0, 29, 42, 180, 0, 29, 184, 0, 48, 43]
abbrev dktX1_be_2 : List UInt8 := dkwX1_be_2 ++ dktX1_be_3
def dkwX1_be_1 : List UInt8 := [180, 0, 18, 42, 180, 0, 18, 184, 0, 44, 43, 180, 0, 21, 42, 180, 0, 21, 184, 0, 44, 43]
abbrev dktX1_be_1 : List UInt8 := dkwX1_be_1 ++ dktX1_be_2
def dkwX1_be_0 : List UInt8 := [43, 180, 0, 9, 42, 180, 0, 9, 184, 0, 44, 43, 180, 0, 15, 42, 180, 0, 15, 184, 0, 44, 43]
abbrev dktX1_be_0 : List UInt8 := dkwX1_be_0 ++ dktX1_be_1
theorem dksX1_be_0 : cX1_be.data.toList.drop 0 = dktX1_be_0 := by decide +kernel
theorem dksX1_be_1 : cX1_be.data.toList.drop 23 = dktX1_be_1 := dk_seg dksX1_be_0 23 rfl rfl
theorem dksX1_be_2 : cX1_be.data.toList.drop 45 = dktX1_be_2 := dk_seg dksX1_be_1 22 rfl rfl
theorem dksX1_be_3 : cX1_be.data.toList.drop 67 = dktX1_be_3 := dk_seg dksX1_be_2 22 rfl rfl
theorem dX1_be_0 : decode cX1_be 0 = .ok (.aload_n 1, 1) := dk_43 (dk_at dksX1_be_0 0 rfl rfl)
theorem dX1_be_1 : decode cX1_be 1 = .ok (.getfield 9, 3) := dk_180 0 9 (dk_at dksX1_be_0 1 rfl rfl)
theorem dX1_be_4 : decode cX1_be 4 = .ok (.aload_n 0, 1) := dk_42 (dk_at dksX1_be_0 4 rfl rfl)
theorem dX1_be_5 : decode cX1_be 5 = .ok (.getfield 9, 3) := dk_180 0 9 (dk_at dksX1_be_0 5 rfl rfl)
theorem dX1_be_8 : decode cX1_be 8 = .ok (.invokestatic 44, 3) := dk_184 0 44 (dk_at dksX1_be_0 8 rfl rfl)
theorem dX1_be_11 : decode cX1_be 11 = .ok (.aload_n 1, 1) := dk_43 (dk_at dksX1_be_0 11 rfl rfl)
theorem dX1_be_12 : decode cX1_be 12 = .ok (.getfield 15, 3) := dk_180 0 15 (dk_at dksX1_be_0 12 rfl rfl)
theorem dX1_be_15 : decode cX1_be 15 = .ok (.aload_n 0, 1) := dk_42 (dk_at dksX1_be_0 15 rfl rfl)
theorem dX1_be_16 : decode cX1_be 16 = .ok (.getfield 15, 3) := dk_180 0 15 (dk_at dksX1_be_0 16 rfl rfl)
theorem dX1_be_19 : decode cX1_be 19 = .ok (.invokestatic 44, 3) := dk_184 0 44 (dk_at dksX1_be_0 19 rfl rfl)
theorem dX1_be_22 : decode cX1_be 22 = .ok (.aload_n 1, 1) := dk_43 (dk_at dksX1_be_0 22 rfl rfl)
theorem dX1_be_23 : decode cX1_be 23 = .ok (.getfield 18, 3) := dk_180 0 18 (dk_at dksX1_be_1 0 rfl rfl)
theorem dX1_be_26 : decode cX1_be 26 = .ok (.aload_n 0, 1) := dk_42 (dk_at dksX1_be_1 3 rfl rfl)
theorem dX1_be_27 : decode cX1_be 27 = .ok (.getfield 18, 3) := dk_180 0 18 (dk_at dksX1_be_1 4 rfl rfl)
theorem dX1_be_30 : decode cX1_be 30 = .ok (.invokestatic 44, 3) := dk_184 0 44 (dk_at dksX1_be_1 7 rfl rfl)
theorem dX1_be_33 : decode cX1_be 33 = .ok (.aload_n 1, 1) := dk_43 (dk_at dksX1_be_1 10 rfl rfl)
theorem dX1_be_34 : decode cX1_be 34 = .ok (.getfield 21, 3) := dk_180 0 21 (dk_at dksX1_be_1 11 rfl rfl)
theorem dX1_be_37 : decode cX1_be 37 = .ok (.aload_n 0, 1) := dk_42 (dk_at dksX1_be_1 14 rfl rfl)
theorem dX1_be_38 : decode cX1_be 38 = .ok (.getfield 21, 3) := dk_180 0 21 (dk_at dksX1_be_1 15 rfl rfl)
theorem dX1_be_41 : decode cX1_be 41 = .ok (.invokestatic 44, 3) := dk_184 0 44 (dk_at dksX1_be_1 18 rfl rfl)
theorem dX1_be_44 : decode cX1_be 44 = .ok (.aload_n 1, 1) := dk_43 (dk_at dksX1_be_1 21 rfl rfl)
theorem dX1_be_45 : decode cX1_be 45 = .ok (.getfield 26, 3) := dk_180 0 26 (dk_at dksX1_be_2 0 rfl rfl)
theorem dX1_be_48 : decode cX1_be 48 = .ok (.aload_n 0, 1) := dk_42 (dk_at dksX1_be_2 3 rfl rfl)
theorem dX1_be_49 : decode cX1_be 49 = .ok (.getfield 26, 3) := dk_180 0 26 (dk_at dksX1_be_2 4 rfl rfl)
theorem dX1_be_52 : decode cX1_be 52 = .ok (.invokestatic 48, 3) := dk_184 0 48 (dk_at dksX1_be_2 7 rfl rfl)
theorem dX1_be_55 : decode cX1_be 55 = .ok (.aload_n 1, 1) := dk_43 (dk_at dksX1_be_2 10 rfl rfl)
theorem dX1_be_56 : decode cX1_be 56 = .ok (.getfield 29, 3) := dk_180 0 29 (dk_at dksX1_be_2 11 rfl rfl)
theorem dX1_be_59 : decode cX1_be 59 = .ok (.aload_n 0, 1) := dk_42 (dk_at dksX1_be_2 14 rfl rfl)
theorem dX1_be_60 : decode cX1_be 60 = .ok (.getfield 29, 3) := dk_180 0 29 (dk_at dksX1_be_2 15 rfl rfl)
theorem dX1_be_63 : decode cX1_be 63 = .ok (.invokestatic 48, 3) := dk_184 0 48 (dk_at dksX1_be_2 18 rfl rfl)
theorem dX1_be_66 : decode cX1_be 66 = .ok (.aload_n 1, 1) := dk_43 (dk_at dksX1_be_2 21 rfl rfl)
theorem dX1_be_67 : decode cX1_be 67 = .ok (.getfield 34, 3) := dk_180 0 34 (dk_at dksX1_be_3 0 rfl rfl)
theorem dX1_be_70 : decode cX1_be 70 = .ok (.iconst 0, 1) := dk_3 (dk_at dksX1_be_3 3 rfl rfl)
theorem dX1_be_71 : decode cX1_be 71 = .ok (.aload_n 0, 1) := dk_42 (dk_at dksX1_be_3 4 rfl rfl)
theorem dX1_be_72 : decode cX1_be 72 = .ok (.getfield 34, 3) := dk_180 0 34 (dk_at dksX1_be_3 5 rfl rfl)
theorem dX1_be_75 : decode cX1_be 75 = .ok (.iconst 0, 1) := dk_3 (dk_at dksX1_be_3 8 rfl rfl)
theorem dX1_be_76 : decode cX1_be 76 = .ok (.iconst 4, 1) := dk_7 (dk_at dksX1_be_3 9 rfl rfl)
theorem dX1_be_77 : decode cX1_be 77 = .ok (.invokestatic 38, 3) := dk_184 0 38 (dk_at dksX1_be_3 10 rfl rfl)
theorem dX1_be_80 : decode cX1_be 80 = .ok (.return_, 1) := dk_177 (dk_at dksX1_be_3 13 rfl rfl)
def dkwX1_copy_0 : List UInt8 := [42, 3, 43, 3, 42, 190, 184, 0, 38, 177]
abbrev dktX1_copy_0 : List UInt8 := dkwX1_copy_0 ++ []
theorem dksX1_copy_0 : cX1_copy.data.toList.drop 0 = dktX1_copy_0 := by decide +kernel
theorem dX1_copy_0 : decode cX1_copy 0 = .ok (.aload_n 0, 1) := dk_42 (dk_at dksX1_copy_0 0 rfl rfl)
theorem dX1_copy_1 : decode cX1_copy 1 = .ok (.iconst 0, 1) := dk_3 (dk_at dksX1_copy_0 1 rfl rfl)
theorem dX1_copy_2 : decode cX1_copy 2 = .ok (.aload_n 1, 1) := dk_43 (dk_at dksX1_copy_0 2 rfl rfl)
theorem dX1_copy_3 : decode cX1_copy 3 = .ok (.iconst 0, 1) := dk_3 (dk_at dksX1_copy_0 3 rfl rfl)
theorem dX1_copy_4 : decode cX1_copy 4 = .ok (.aload_n 0, 1) := dk_42 (dk_at dksX1_copy_0 4 rfl rfl)
theorem dX1_copy_5 : decode cX1_copy 5 = .ok (.arraylength, 1) := dk_190 (dk_at dksX1_copy_0 5 rfl rfl)
theorem dX1_copy_6 : decode cX1_copy 6 = .ok (.invokestatic 38, 3) := dk_184 0 38 (dk_at dksX1_copy_0 6 rfl rfl)
theorem dX1_copy_9 : decode cX1_copy 9 = .ok (.return_, 1) := dk_177 (dk_at dksX1_copy_0 9 rfl rfl)
def dkwX1_copy_2_0 : List UInt8 := [3, 61, 28, 42, 190, 162, 0, 18, 42, 28, 50, 43, 28, 50, 184, 0, 44, 132, 2, 1, 167, 255, 238, 177]
abbrev dktX1_copy_2_0 : List UInt8 := dkwX1_copy_2_0 ++ []
theorem dksX1_copy_2_0 : cX1_copy_2.data.toList.drop 0 = dktX1_copy_2_0 := by decide +kernel
theorem dX1_copy_2_0 : decode cX1_copy_2 0 = .ok (.iconst 0, 1) := dk_3 (dk_at dksX1_copy_2_0 0 rfl rfl)
theorem dX1_copy_2_1 : decode cX1_copy_2 1 = .ok (.istore_n 2, 1) := dk_61 (dk_at dksX1_copy_2_0 1 rfl rfl)
theorem dX1_copy_2_2 : decode cX1_copy_2 2 = .ok (.iload_n 2, 1) := dk_28 (dk_at dksX1_copy_2_0 2 rfl rfl)
theorem dX1_copy_2_3 : decode cX1_copy_2 3 = .ok (.aload_n 0, 1) := dk_42 (dk_at dksX1_copy_2_0 3 rfl rfl)
theorem dX1_copy_2_4 : decode cX1_copy_2 4 = .ok (.arraylength, 1) := dk_190 (dk_at dksX1_copy_2_0 4 rfl rfl)
theorem dX1_copy_2_5 : decode cX1_copy_2 5 = .ok (.if_icmp .ge 18, 3) := dk_162 0 18 (dk_at dksX1_copy_2_0 5 rfl rfl)
theorem dX1_copy_2_8 : decode cX1_copy_2 8 = .ok (.aload_n 0, 1) := dk_42 (dk_at dksX1_copy_2_0 8 rfl rfl)
theorem dX1_copy_2_9 : decode cX1_copy_2 9 = .ok (.iload_n 2, 1) := dk_28 (dk_at dksX1_copy_2_0 9 rfl rfl)
theorem dX1_copy_2_10 : decode cX1_copy_2 10 = .ok (.aaload, 1) := dk_50 (dk_at dksX1_copy_2_0 10 rfl rfl)
theorem dX1_copy_2_11 : decode cX1_copy_2 11 = .ok (.aload_n 1, 1) := dk_43 (dk_at dksX1_copy_2_0 11 rfl rfl)
theorem dX1_copy_2_12 : decode cX1_copy_2 12 = .ok (.iload_n 2, 1) := dk_28 (dk_at dksX1_copy_2_0 12 rfl rfl)
theorem dX1_copy_2_13 : decode cX1_copy_2 13 = .ok (.aaload, 1) := dk_50 (dk_at dksX1_copy_2_0 13 rfl rfl)
theorem dX1_copy_2_14 : decode cX1_copy_2 14 = .ok (.invokestatic 44, 3) := dk_184 0 44 (dk_at dksX1_copy_2_0 14 rfl rfl)
theorem dX1_copy_2_17 : decode cX1_copy_2 17 = .ok (.iinc 2 1, 3) := dk_132 2 1 (dk_at dksX1_copy_2_0 17 rfl rfl)
theorem dX1_copy_2_20 : decode cX1_copy_2 20 = .ok (.goto (-18), 3) := dk_167 255 238 (dk_at dksX1_copy_2_0 20 rfl rfl)
theorem dX1_copy_2_23 : decode cX1_copy_2 23 = .ok (.return_, 1) := dk_177 (dk_at dksX1_copy_2_0 23 rfl rfl)
def dkwX1_keeps_3 : List UInt8 := [180, 0, 9, 7, 92, 46, 4, 96, 79, 177]
abbrev dktX1_keeps_3 : List UInt8 := dkwX1_keeps_3 ++ []
def dkwX1_keeps_2 : List UInt8 := [46, 4, 100, 79, 42, 180, 0, 21, 42, 180, 0, 26, 42, 180, 0, 9, 7, 46, 50, 184, 0, 44, 42]
abbrev dktX1_keeps_2 : List UInt8 := dkwX1_keeps_2 ++ dktX1_keeps_3
def dkwX1_keeps_1 : List UInt8 := [50, 42, 180, 0, 26, 27, 4, 100, 50, 184, 0, 44, 132, 1, 1, 167, 255, 230, 42, 180, 0, 9, 7, 92]
abbrev dktX1_keeps_1 : List UInt8 := dkwX1_keeps_1 ++ dktX1_keeps_2
def dkwX1_keeps_0 : List UInt8 := [42, 180, 0, 9, 7, 46, 16, 20, 160, 0, 44, 4, 60, 27, 16, 20, 162, 0, 26, 42, 180, 0, 26, 27]
abbrev dktX1_keeps_0 : List UInt8 := dkwX1_keeps_0 ++ dktX1_keeps_1
theorem dksX1_keeps_0 : cX1_keeps.data.toList.drop 0 = dktX1_keeps_0 := by decide +kernel
theorem dksX1_keeps_1 : cX1_keeps.data.toList.drop 24 = dktX1_keeps_1 := dk_seg dksX1_keeps_0 24 rfl rfl
theorem dksX1_keeps_2 : cX1_keeps.data.toList.drop 48 = dktX1_keeps_2 := dk_seg dksX1_keeps_1 24 rfl rfl
theorem dksX1_keeps_3 : cX1_keeps.data.toList.drop 71 = dktX1_keeps_3 := dk_seg dksX1_keeps_2 23 rfl rfl
theorem dX1_keeps_0 : decode cX1_keeps 0 = .ok (.aload_n 0, 1) := dk_42 (dk_at dksX1_keeps_0 0 rfl rfl)
theorem dX1_keeps_1 : decode cX1_keeps 1 = .ok (.getfield 9, 3) := dk_180 0 9 (dk_at dksX1_keeps_0 1 rfl rfl)
theorem dX1_keeps_4 : decode cX1_keeps 4 = .ok (.iconst 4, 1) := dk_7 (dk_at dksX1_keeps_0 4 rfl rfl)
theorem dX1_keeps_5 : decode cX1_keeps 5 = .ok (.iaload, 1) := dk_46 (dk_at dksX1_keeps_0 5 rfl rfl)
theorem dX1_keeps_6 : decode cX1_keeps 6 = .ok (.bipush 20, 2) := dk_16 20 (dk_at dksX1_keeps_0 6 rfl rfl)
theorem dX1_keeps_8 : decode cX1_keeps 8 = .ok (.if_icmp .ne 44, 3) := dk_160 0 44 (dk_at dksX1_keeps_0 8 rfl rfl)
theorem dX1_keeps_11 : decode cX1_keeps 11 = .ok (.iconst 1, 1) := dk_4 (dk_at dksX1_keeps_0 11 rfl rfl)
theorem dX1_keeps_12 : decode cX1_keeps 12 = .ok (.istore_n 1, 1) := dk_60 (dk_at dksX1_keeps_0 12 rfl rfl)
theorem dX1_keeps_13 : decode cX1_keeps 13 = .ok (.iload_n 1, 1) := dk_27 (dk_at dksX1_keeps_0 13 rfl rfl)
theorem dX1_keeps_14 : decode cX1_keeps 14 = .ok (.bipush 20, 2) := dk_16 20 (dk_at dksX1_keeps_0 14 rfl rfl)
theorem dX1_keeps_16 : decode cX1_keeps 16 = .ok (.if_icmp .ge 26, 3) := dk_162 0 26 (dk_at dksX1_keeps_0 16 rfl rfl)
theorem dX1_keeps_19 : decode cX1_keeps 19 = .ok (.aload_n 0, 1) := dk_42 (dk_at dksX1_keeps_0 19 rfl rfl)
theorem dX1_keeps_20 : decode cX1_keeps 20 = .ok (.getfield 26, 3) := dk_180 0 26 (dk_at dksX1_keeps_0 20 rfl rfl)
theorem dX1_keeps_23 : decode cX1_keeps 23 = .ok (.iload_n 1, 1) := dk_27 (dk_at dksX1_keeps_0 23 rfl rfl)
theorem dX1_keeps_24 : decode cX1_keeps 24 = .ok (.aaload, 1) := dk_50 (dk_at dksX1_keeps_1 0 rfl rfl)
theorem dX1_keeps_25 : decode cX1_keeps 25 = .ok (.aload_n 0, 1) := dk_42 (dk_at dksX1_keeps_1 1 rfl rfl)
theorem dX1_keeps_26 : decode cX1_keeps 26 = .ok (.getfield 26, 3) := dk_180 0 26 (dk_at dksX1_keeps_1 2 rfl rfl)
theorem dX1_keeps_29 : decode cX1_keeps 29 = .ok (.iload_n 1, 1) := dk_27 (dk_at dksX1_keeps_1 5 rfl rfl)
theorem dX1_keeps_30 : decode cX1_keeps 30 = .ok (.iconst 1, 1) := dk_4 (dk_at dksX1_keeps_1 6 rfl rfl)
theorem dX1_keeps_31 : decode cX1_keeps 31 = .ok (.isub, 1) := dk_100 (dk_at dksX1_keeps_1 7 rfl rfl)
theorem dX1_keeps_32 : decode cX1_keeps 32 = .ok (.aaload, 1) := dk_50 (dk_at dksX1_keeps_1 8 rfl rfl)
theorem dX1_keeps_33 : decode cX1_keeps 33 = .ok (.invokestatic 44, 3) := dk_184 0 44 (dk_at dksX1_keeps_1 9 rfl rfl)
theorem dX1_keeps_36 : decode cX1_keeps 36 = .ok (.iinc 1 1, 3) := dk_132 1 1 (dk_at dksX1_keeps_1 12 rfl rfl)
theorem dX1_keeps_39 : decode cX1_keeps 39 = .ok (.goto (-26), 3) := dk_167 255 230 (dk_at dksX1_keeps_1 15 rfl rfl)
theorem dX1_keeps_42 : decode cX1_keeps 42 = .ok (.aload_n 0, 1) := dk_42 (dk_at dksX1_keeps_1 18 rfl rfl)
theorem dX1_keeps_43 : decode cX1_keeps 43 = .ok (.getfield 9, 3) := dk_180 0 9 (dk_at dksX1_keeps_1 19 rfl rfl)
theorem dX1_keeps_46 : decode cX1_keeps 46 = .ok (.iconst 4, 1) := dk_7 (dk_at dksX1_keeps_1 22 rfl rfl)
theorem dX1_keeps_47 : decode cX1_keeps 47 = .ok (.dup2, 1) := dk_92 (dk_at dksX1_keeps_1 23 rfl rfl)
theorem dX1_keeps_48 : decode cX1_keeps 48 = .ok (.iaload, 1) := dk_46 (dk_at dksX1_keeps_2 0 rfl rfl)
theorem dX1_keeps_49 : decode cX1_keeps 49 = .ok (.iconst 1, 1) := dk_4 (dk_at dksX1_keeps_2 1 rfl rfl)
theorem dX1_keeps_50 : decode cX1_keeps 50 = .ok (.isub, 1) := dk_100 (dk_at dksX1_keeps_2 2 rfl rfl)
theorem dX1_keeps_51 : decode cX1_keeps 51 = .ok (.iastore, 1) := dk_79 (dk_at dksX1_keeps_2 3 rfl rfl)
theorem dX1_keeps_52 : decode cX1_keeps 52 = .ok (.aload_n 0, 1) := dk_42 (dk_at dksX1_keeps_2 4 rfl rfl)
theorem dX1_keeps_53 : decode cX1_keeps 53 = .ok (.getfield 21, 3) := dk_180 0 21 (dk_at dksX1_keeps_2 5 rfl rfl)
theorem dX1_keeps_56 : decode cX1_keeps 56 = .ok (.aload_n 0, 1) := dk_42 (dk_at dksX1_keeps_2 8 rfl rfl)
theorem dX1_keeps_57 : decode cX1_keeps 57 = .ok (.getfield 26, 3) := dk_180 0 26 (dk_at dksX1_keeps_2 9 rfl rfl)
theorem dX1_keeps_60 : decode cX1_keeps 60 = .ok (.aload_n 0, 1) := dk_42 (dk_at dksX1_keeps_2 12 rfl rfl)
theorem dX1_keeps_61 : decode cX1_keeps 61 = .ok (.getfield 9, 3) := dk_180 0 9 (dk_at dksX1_keeps_2 13 rfl rfl)
theorem dX1_keeps_64 : decode cX1_keeps 64 = .ok (.iconst 4, 1) := dk_7 (dk_at dksX1_keeps_2 16 rfl rfl)
theorem dX1_keeps_65 : decode cX1_keeps 65 = .ok (.iaload, 1) := dk_46 (dk_at dksX1_keeps_2 17 rfl rfl)
theorem dX1_keeps_66 : decode cX1_keeps 66 = .ok (.aaload, 1) := dk_50 (dk_at dksX1_keeps_2 18 rfl rfl)
theorem dX1_keeps_67 : decode cX1_keeps 67 = .ok (.invokestatic 44, 3) := dk_184 0 44 (dk_at dksX1_keeps_2 19 rfl rfl)
theorem dX1_keeps_70 : decode cX1_keeps 70 = .ok (.aload_n 0, 1) := dk_42 (dk_at dksX1_keeps_2 22 rfl rfl)
theorem dX1_keeps_71 : decode cX1_keeps 71 = .ok (.getfield 9, 3) := dk_180 0 9 (dk_at dksX1_keeps_3 0 rfl rfl)
theorem dX1_keeps_74 : decode cX1_keeps 74 = .ok (.iconst 4, 1) := dk_7 (dk_at dksX1_keeps_3 3 rfl rfl)
theorem dX1_keeps_75 : decode cX1_keeps 75 = .ok (.dup2, 1) := dk_92 (dk_at dksX1_keeps_3 4 rfl rfl)
theorem dX1_keeps_76 : decode cX1_keeps 76 = .ok (.iaload, 1) := dk_46 (dk_at dksX1_keeps_3 5 rfl rfl)
theorem dX1_keeps_77 : decode cX1_keeps 77 = .ok (.iconst 1, 1) := dk_4 (dk_at dksX1_keeps_3 6 rfl rfl)
theorem dX1_keeps_78 : decode cX1_keeps 78 = .ok (.iadd, 1) := dk_96 (dk_at dksX1_keeps_3 7 rfl rfl)
theorem dX1_keeps_79 : decode cX1_keeps 79 = .ok (.iastore, 1) := dk_79 (dk_at dksX1_keeps_3 8 rfl rfl)
theorem dX1_keeps_80 : decode cX1_keeps 80 = .ok (.return_, 1) := dk_177 (dk_at dksX1_keeps_3 9 rfl rfl)
def dkwX3_init_0 : List UInt8 := [42, 183, 0, 3, 42, 43, 181, 0, 9, 42, 28, 181, 0, 15, 177]
abbrev dktX3_init_0 : List UInt8 := dkwX3_init_0 ++ []
theorem dksX3_init_0 : cX3_init.data.toList.drop 0 = dktX3_init_0 := by decide +kernel
theorem dX3_init_0 : decode cX3_init 0 = .ok (.aload_n 0, 1) := dk_42 (dk_at dksX3_init_0 0 rfl rfl)
theorem dX3_init_1 : decode cX3_init 1 = .ok (.invokespecial 3, 3) := dk_183 0 3 (dk_at dksX3_init_0 1 rfl rfl)
theorem dX3_init_4 : decode cX3_init 4 = .ok (.aload_n 0, 1) := dk_42 (dk_at dksX3_init_0 4 rfl rfl)
theorem dX3_init_5 : decode cX3_init 5 = .ok (.aload_n 1, 1) := dk_43 (dk_at dksX3_init_0 5 rfl rfl)
theorem dX3_init_6 : decode cX3_init 6 = .ok (.putfield 9, 3) := dk_181 0 9 (dk_at dksX3_init_0 6 rfl rfl)
theorem dX3_init_9 : decode cX3_init 9 = .ok (.aload_n 0, 1) := dk_42 (dk_at dksX3_init_0 9 rfl rfl)
theorem dX3_init_10 : decode cX3_init 10 = .ok (.iload_n 2, 1) := dk_28 (dk_at dksX3_init_0 10 rfl rfl)
theorem dX3_init_11 : decode cX3_init 11 = .ok (.putfield 15, 3) := dk_181 0 15 (dk_at dksX3_init_0 11 rfl rfl)
theorem dX3_init_14 : decode cX3_init 14 = .ok (.return_, 1) := dk_177 (dk_at dksX3_init_0 14 rfl rfl)
def dkwX3_read_6 : List UInt8 := [182, 0, 104, 43, 89, 180, 0, 97, 4, 96, 181, 0, 97, 167, 255, 114, 43, 176]
abbrev dktX3_read_6 : List UInt8 := dkwX3_read_6 ++ []
def dkwX3_read_5 : List UInt8 := [16, 24, 160, 0, 10, 42, 16, 6, 182, 0, 70, 191, 42, 182, 0, 74, 42, 43, 182, 0, 100, 42, 16, 59]
abbrev dktX3_read_5 : List UInt8 := dkwX3_read_5 ++ dktX3_read_6
def dkwX3_read_4 : List UInt8 := [17, 0, 202, 160, 0, 16, 43, 180, 0, 94, 198, 0, 9, 42, 7, 182, 0, 70, 191, 43, 180, 0, 97]
abbrev dktX3_read_4 : List UInt8 := dkwX3_read_4 ++ dktX3_read_5
def dkwX3_read_3 : List UInt8 := [199, 0, 37, 42, 180, 0, 83, 17, 0, 201, 160, 0, 10, 43, 180, 0, 90, 199, 0, 20, 42, 180, 0, 83]
abbrev dktX3_read_3 : List UInt8 := dkwX3_read_3 ++ dktX3_read_4
def dkwX3_read_2 : List UInt8 := [191, 42, 42, 180, 0, 25, 181, 0, 83, 42, 180, 0, 83, 17, 0, 200, 160, 0, 10, 43, 180, 0, 86]
abbrev dktX3_read_2 : List UInt8 := dkwX3_read_2 ++ dktX3_read_3
def dkwX3_read_1 : List UInt8 := [180, 0, 25, 17, 0, 200, 161, 0, 13, 42, 180, 0, 25, 17, 0, 208, 164, 0, 9, 42, 4, 182, 0, 70]
abbrev dktX3_read_1 : List UInt8 := dkwX3_read_1 ++ dktX3_read_2
def dkwX3_read_0 : List UInt8 := [187, 0, 80, 89, 183, 0, 82, 76, 42, 182, 0, 74, 42, 180, 0, 25, 17, 1, 45, 159, 0, 138, 42]
abbrev dktX3_read_0 : List UInt8 := dkwX3_read_0 ++ dktX3_read_1
theorem dksX3_read_0 : cX3_read.data.toList.drop 0 = dktX3_read_0 := by decide +kernel
theorem dksX3_read_1 : cX3_read.data.toList.drop 23 = dktX3_read_1 := dk_seg dksX3_read_0 23 rfl rfl
theorem dksX3_read_2 : cX3_read.data.toList.drop 47 = dktX3_read_2 := dk_seg dksX3_read_1 24 rfl rfl
theorem dksX3_read_3 : cX3_read.data.toList.drop 70 = dktX3_read_3 := dk_seg dksX3_read_2 23 rfl rfl
theorem dksX3_read_4 : cX3_read.data.toList.drop 94 = dktX3_read_4 := dk_seg dksX3_read_3 24 rfl rfl
theorem dksX3_read_5 : cX3_read.data.toList.drop 117 = dktX3_read_5 := dk_seg dksX3_read_4 23 rfl rfl
theorem dksX3_read_6 : cX3_read.data.toList.drop 141 = dktX3_read_6 := dk_seg dksX3_read_5 24 rfl rfl
theorem dX3_read_0 : decode cX3_read 0 = .ok (.new 80, 3) := dk_187 0 80 (dk_at dksX3_read_0 0 rfl rfl)
theorem dX3_read_3 : decode cX3_read 3 = .ok (.dup, 1) := dk_89 (dk_at dksX3_read_0 3 rfl rfl)
theorem dX3_read_4 : decode cX3_read 4 = .ok (.invokespecial 82, 3) := dk_183 0 82 (dk_at dksX3_read_0 4 rfl rfl)
theorem dX3_read_7 : decode cX3_read 7 = .ok (.astore_n 1, 1) := dk_76 (dk_at dksX3_read_0 7 rfl rfl)
theorem dX3_read_8 : decode cX3_read 8 = .ok (.aload_n 0, 1) := dk_42 (dk_at dksX3_read_0 8 rfl rfl)
theorem dX3_read_9 : decode cX3_read 9 = .ok (.invokevirtual 74, 3) := dk_182 0 74 (dk_at dksX3_read_0 9 rfl rfl)
theorem dX3_read_12 : decode cX3_read 12 = .ok (.aload_n 0, 1) := dk_42 (dk_at dksX3_read_0 12 rfl rfl)
theorem dX3_read_13 : decode cX3_read 13 = .ok (.getfield 25, 3) := dk_180 0 25 (dk_at dksX3_read_0 13 rfl rfl)
theorem dX3_read_16 : decode cX3_read 16 = .ok (.sipush 301, 3) := dk_17 1 45 (dk_at dksX3_read_0 16 rfl rfl)
theorem dX3_read_19 : decode cX3_read 19 = .ok (.if_icmp .eq 138, 3) := dk_159 0 138 (dk_at dksX3_read_0 19 rfl rfl)
theorem dX3_read_22 : decode cX3_read 22 = .ok (.aload_n 0, 1) := dk_42 (dk_at dksX3_read_0 22 rfl rfl)
theorem dX3_read_23 : decode cX3_read 23 = .ok (.getfield 25, 3) := dk_180 0 25 (dk_at dksX3_read_1 0 rfl rfl)
theorem dX3_read_26 : decode cX3_read 26 = .ok (.sipush 200, 3) := dk_17 0 200 (dk_at dksX3_read_1 3 rfl rfl)
theorem dX3_read_29 : decode cX3_read 29 = .ok (.if_icmp .lt 13, 3) := dk_161 0 13 (dk_at dksX3_read_1 6 rfl rfl)
theorem dX3_read_32 : decode cX3_read 32 = .ok (.aload_n 0, 1) := dk_42 (dk_at dksX3_read_1 9 rfl rfl)
theorem dX3_read_33 : decode cX3_read 33 = .ok (.getfield 25, 3) := dk_180 0 25 (dk_at dksX3_read_1 10 rfl rfl)
theorem dX3_read_36 : decode cX3_read 36 = .ok (.sipush 208, 3) := dk_17 0 208 (dk_at dksX3_read_1 13 rfl rfl)
theorem dX3_read_39 : decode cX3_read 39 = .ok (.if_icmp .le 9, 3) := dk_164 0 9 (dk_at dksX3_read_1 16 rfl rfl)
theorem dX3_read_42 : decode cX3_read 42 = .ok (.aload_n 0, 1) := dk_42 (dk_at dksX3_read_1 19 rfl rfl)
theorem dX3_read_43 : decode cX3_read 43 = .ok (.iconst 1, 1) := dk_4 (dk_at dksX3_read_1 20 rfl rfl)
theorem dX3_read_44 : decode cX3_read 44 = .ok (.invokevirtual 70, 3) := dk_182 0 70 (dk_at dksX3_read_1 21 rfl rfl)
theorem dX3_read_47 : decode cX3_read 47 = .ok (.athrow, 1) := dk_191 (dk_at dksX3_read_2 0 rfl rfl)
theorem dX3_read_48 : decode cX3_read 48 = .ok (.aload_n 0, 1) := dk_42 (dk_at dksX3_read_2 1 rfl rfl)
theorem dX3_read_49 : decode cX3_read 49 = .ok (.aload_n 0, 1) := dk_42 (dk_at dksX3_read_2 2 rfl rfl)
theorem dX3_read_50 : decode cX3_read 50 = .ok (.getfield 25, 3) := dk_180 0 25 (dk_at dksX3_read_2 3 rfl rfl)
theorem dX3_read_53 : decode cX3_read 53 = .ok (.putfield 83, 3) := dk_181 0 83 (dk_at dksX3_read_2 6 rfl rfl)
theorem dX3_read_56 : decode cX3_read 56 = .ok (.aload_n 0, 1) := dk_42 (dk_at dksX3_read_2 9 rfl rfl)
theorem dX3_read_57 : decode cX3_read 57 = .ok (.getfield 83, 3) := dk_180 0 83 (dk_at dksX3_read_2 10 rfl rfl)
theorem dX3_read_60 : decode cX3_read 60 = .ok (.sipush 200, 3) := dk_17 0 200 (dk_at dksX3_read_2 13 rfl rfl)
theorem dX3_read_63 : decode cX3_read 63 = .ok (.if_icmp .ne 10, 3) := dk_160 0 10 (dk_at dksX3_read_2 16 rfl rfl)
theorem dX3_read_66 : decode cX3_read 66 = .ok (.aload_n 1, 1) := dk_43 (dk_at dksX3_read_2 19 rfl rfl)
theorem dX3_read_67 : decode cX3_read 67 = .ok (.getfield 86, 3) := dk_180 0 86 (dk_at dksX3_read_2 20 rfl rfl)
theorem dX3_read_70 : decode cX3_read 70 = .ok (.ifnonnull 37, 3) := dk_199 0 37 (dk_at dksX3_read_3 0 rfl rfl)
theorem dX3_read_73 : decode cX3_read 73 = .ok (.aload_n 0, 1) := dk_42 (dk_at dksX3_read_3 3 rfl rfl)
theorem dX3_read_74 : decode cX3_read 74 = .ok (.getfield 83, 3) := dk_180 0 83 (dk_at dksX3_read_3 4 rfl rfl)
theorem dX3_read_77 : decode cX3_read 77 = .ok (.sipush 201, 3) := dk_17 0 201 (dk_at dksX3_read_3 7 rfl rfl)
theorem dX3_read_80 : decode cX3_read 80 = .ok (.if_icmp .ne 10, 3) := dk_160 0 10 (dk_at dksX3_read_3 10 rfl rfl)
theorem dX3_read_83 : decode cX3_read 83 = .ok (.aload_n 1, 1) := dk_43 (dk_at dksX3_read_3 13 rfl rfl)
theorem dX3_read_84 : decode cX3_read 84 = .ok (.getfield 90, 3) := dk_180 0 90 (dk_at dksX3_read_3 14 rfl rfl)
theorem dX3_read_87 : decode cX3_read 87 = .ok (.ifnonnull 20, 3) := dk_199 0 20 (dk_at dksX3_read_3 17 rfl rfl)
theorem dX3_read_90 : decode cX3_read 90 = .ok (.aload_n 0, 1) := dk_42 (dk_at dksX3_read_3 20 rfl rfl)
theorem dX3_read_91 : decode cX3_read 91 = .ok (.getfield 83, 3) := dk_180 0 83 (dk_at dksX3_read_3 21 rfl rfl)
theorem dX3_read_94 : decode cX3_read 94 = .ok (.sipush 202, 3) := dk_17 0 202 (dk_at dksX3_read_4 0 rfl rfl)
theorem dX3_read_97 : decode cX3_read 97 = .ok (.if_icmp .ne 16, 3) := dk_160 0 16 (dk_at dksX3_read_4 3 rfl rfl)
theorem dX3_read_100 : decode cX3_read 100 = .ok (.aload_n 1, 1) := dk_43 (dk_at dksX3_read_4 6 rfl rfl)
theorem dX3_read_101 : decode cX3_read 101 = .ok (.getfield 94, 3) := dk_180 0 94 (dk_at dksX3_read_4 7 rfl rfl)
theorem dX3_read_104 : decode cX3_read 104 = .ok (.ifnull 9, 3) := dk_198 0 9 (dk_at dksX3_read_4 10 rfl rfl)
theorem dX3_read_107 : decode cX3_read 107 = .ok (.aload_n 0, 1) := dk_42 (dk_at dksX3_read_4 13 rfl rfl)
theorem dX3_read_108 : decode cX3_read 108 = .ok (.iconst 4, 1) := dk_7 (dk_at dksX3_read_4 14 rfl rfl)
theorem dX3_read_109 : decode cX3_read 109 = .ok (.invokevirtual 70, 3) := dk_182 0 70 (dk_at dksX3_read_4 15 rfl rfl)
theorem dX3_read_112 : decode cX3_read 112 = .ok (.athrow, 1) := dk_191 (dk_at dksX3_read_4 18 rfl rfl)
theorem dX3_read_113 : decode cX3_read 113 = .ok (.aload_n 1, 1) := dk_43 (dk_at dksX3_read_4 19 rfl rfl)
theorem dX3_read_114 : decode cX3_read 114 = .ok (.getfield 97, 3) := dk_180 0 97 (dk_at dksX3_read_4 20 rfl rfl)
theorem dX3_read_117 : decode cX3_read 117 = .ok (.bipush 24, 2) := dk_16 24 (dk_at dksX3_read_5 0 rfl rfl)
theorem dX3_read_119 : decode cX3_read 119 = .ok (.if_icmp .ne 10, 3) := dk_160 0 10 (dk_at dksX3_read_5 2 rfl rfl)
theorem dX3_read_122 : decode cX3_read 122 = .ok (.aload_n 0, 1) := dk_42 (dk_at dksX3_read_5 5 rfl rfl)
theorem dX3_read_123 : decode cX3_read 123 = .ok (.bipush 6, 2) := dk_16 6 (dk_at dksX3_read_5 6 rfl rfl)
theorem dX3_read_125 : decode cX3_read 125 = .ok (.invokevirtual 70, 3) := dk_182 0 70 (dk_at dksX3_read_5 8 rfl rfl)
theorem dX3_read_128 : decode cX3_read 128 = .ok (.athrow, 1) := dk_191 (dk_at dksX3_read_5 11 rfl rfl)
theorem dX3_read_129 : decode cX3_read 129 = .ok (.aload_n 0, 1) := dk_42 (dk_at dksX3_read_5 12 rfl rfl)
theorem dX3_read_130 : decode cX3_read 130 = .ok (.invokevirtual 74, 3) := dk_182 0 74 (dk_at dksX3_read_5 13 rfl rfl)
theorem dX3_read_133 : decode cX3_read 133 = .ok (.aload_n 0, 1) := dk_42 (dk_at dksX3_read_5 16 rfl rfl)
theorem dX3_read_134 : decode cX3_read 134 = .ok (.aload_n 1, 1) := dk_43 (dk_at dksX3_read_5 17 rfl rfl)
theorem dX3_read_135 : decode cX3_read 135 = .ok (.invokevirtual 100, 3) := dk_182 0 100 (dk_at dksX3_read_5 18 rfl rfl)
theorem dX3_read_138 : decode cX3_read 138 = .ok (.aload_n 0, 1) := dk_42 (dk_at dksX3_read_5 21 rfl rfl)
theorem dX3_read_139 : decode cX3_read 139 = .ok (.bipush 59, 2) := dk_16 59 (dk_at dksX3_read_5 22 rfl rfl)
theorem dX3_read_141 : decode cX3_read 141 = .ok (.invokevirtual 104, 3) := dk_182 0 104 (dk_at dksX3_read_6 0 rfl rfl)
theorem dX3_read_144 : decode cX3_read 144 = .ok (.aload_n 1, 1) := dk_43 (dk_at dksX3_read_6 3 rfl rfl)
theorem dX3_read_145 : decode cX3_read 145 = .ok (.dup, 1) := dk_89 (dk_at dksX3_read_6 4 rfl rfl)
theorem dX3_read_146 : decode cX3_read 146 = .ok (.getfield 97, 3) := dk_180 0 97 (dk_at dksX3_read_6 5 rfl rfl)
theorem dX3_read_149 : decode cX3_read 149 = .ok (.iconst 1, 1) := dk_4 (dk_at dksX3_read_6 8 rfl rfl)
theorem dX3_read_150 : decode cX3_read 150 = .ok (.iadd, 1) := dk_96 (dk_at dksX3_read_6 9 rfl rfl)
theorem dX3_read_151 : decode cX3_read 151 = .ok (.putfield 97, 3) := dk_181 0 97 (dk_at dksX3_read_6 10 rfl rfl)
theorem dX3_read_154 : decode cX3_read 154 = .ok (.goto (-142), 3) := dk_167 255 114 (dk_at dksX3_read_6 13 rfl rfl)
theorem dX3_read_157 : decode cX3_read 157 = .ok (.aload_n 1, 1) := dk_43 (dk_at dksX3_read_6 16 rfl rfl)
theorem dX3_read_158 : decode cX3_read 158 = .ok (.areturn, 1) := dk_176 (dk_at dksX3_read_6 17 rfl rfl)
def dkwX3_next_17 : List UInt8 := [4, 96, 181, 0, 19, 177]
abbrev dktX3_next_17 : List UInt8 := dkwX3_next_17 ++ []
def dkwX3_next_16 : List UInt8 := [42, 27, 16, 60, 160, 0, 9, 17, 1, 47, 167, 0, 6, 17, 1, 48, 181, 0, 25, 42, 89, 180, 0, 19]
abbrev dktX3_next_16 : List UInt8 := dkwX3_next_16 ++ dktX3_next_17
def dkwX3_next_15 : List UInt8 := [180, 0, 19, 42, 180, 0, 15, 162, 0, 46, 42, 180, 0, 9, 42, 180, 0, 19, 51, 16, 61, 160, 0, 32]
abbrev dktX3_next_15 : List UInt8 := dkwX3_next_15 ++ dktX3_next_16
def dkwX3_next_14 : List UInt8 := [42, 27, 181, 0, 25, 132, 2, 1, 167, 255, 229, 27, 16, 60, 159, 0, 9, 27, 16, 62, 160, 0, 57, 42]
abbrev dktX3_next_14 : List UInt8 := dkwX3_next_14 ++ dktX3_next_15
def dkwX3_next_13 : List UInt8 := [181, 0, 25, 3, 61, 28, 18, 53, 182, 0, 55, 162, 0, 24, 18, 53, 28, 182, 0, 61, 27, 160, 0, 8]
abbrev dktX3_next_13 : List UInt8 := dkwX3_next_13 ++ dktX3_next_14
def dkwX3_next_12 : List UInt8 := [42, 180, 0, 9, 42, 180, 0, 19, 51, 60, 42, 89, 180, 0, 19, 4, 96, 181, 0, 19, 42, 17, 1, 46]
abbrev dktX3_next_12 : List UInt8 := dkwX3_next_12 ++ dktX3_next_13
def dkwX3_next_11 : List UInt8 := [51, 96, 16, 48, 100, 184, 0, 47, 181, 0, 43, 42, 89, 180, 0, 19, 4, 96, 181, 0, 19, 167, 255, 191]
abbrev dktX3_next_11 : List UInt8 := dkwX3_next_11 ++ dktX3_next_12
def dkwX3_next_10 : List UInt8 := [184, 0, 40, 153, 0, 170, 42, 18, 46, 16, 10, 42, 180, 0, 43, 104, 42, 180, 0, 9, 42, 180, 0, 19]
abbrev dktX3_next_10 : List UInt8 := dkwX3_next_10 ++ dktX3_next_11
def dkwX3_next_9 : List UInt8 := [181, 0, 43, 42, 180, 0, 19, 42, 180, 0, 15, 162, 0, 185, 42, 180, 0, 9, 42, 180, 0, 19, 51]
abbrev dktX3_next_9 : List UInt8 := dkwX3_next_9 ++ dktX3_next_10
def dkwX3_next_8 : List UInt8 := [42, 180, 0, 9, 42, 180, 0, 19, 51, 184, 0, 40, 153, 0, 83, 42, 17, 1, 44, 181, 0, 25, 42, 3]
abbrev dktX3_next_8 : List UInt8 := dkwX3_next_8 ++ dktX3_next_9
def dkwX3_next_7 : List UInt8 := [182, 0, 36, 153, 0, 12, 42, 17, 0, 200, 27, 96, 181, 0, 25, 132, 1, 1, 167, 255, 224, 167, 0, 223]
abbrev dktX3_next_7 : List UInt8 := dkwX3_next_7 ++ dktX3_next_8
def dkwX3_next_6 : List UInt8 := [17, 1, 46, 181, 0, 25, 3, 60, 27, 178, 0, 32, 190, 162, 0, 30, 42, 178, 0, 32, 27, 50]
abbrev dktX3_next_6 : List UInt8 := dkwX3_next_6 ++ dktX3_next_7
def dkwX3_next_5 : List UInt8 := [180, 0, 19, 51, 184, 0, 28, 153, 0, 16, 42, 89, 180, 0, 19, 4, 96, 181, 0, 19, 167, 255, 220, 42]
abbrev dktX3_next_5 : List UInt8 := dkwX3_next_5 ++ dktX3_next_6
def dkwX3_next_4 : List UInt8 := [184, 0, 28, 153, 0, 89, 42, 180, 0, 19, 42, 180, 0, 15, 162, 0, 31, 42, 180, 0, 9, 42]
abbrev dktX3_next_4 : List UInt8 := dkwX3_next_4 ++ dktX3_next_5
def dkwX3_next_3 : List UInt8 := [160, 0, 13, 42, 17, 1, 45, 181, 0, 25, 167, 1, 68, 42, 180, 0, 9, 42, 180, 0, 19, 51]
abbrev dktX3_next_3 : List UInt8 := dkwX3_next_3 ++ dktX3_next_4
def dkwX3_next_2 : List UInt8 := [181, 0, 19, 167, 255, 207, 42, 42, 180, 0, 19, 181, 0, 22, 42, 180, 0, 19, 42, 180, 0, 15]
abbrev dktX3_next_2 : List UInt8 := dkwX3_next_2 ++ dktX3_next_3
def dkwX3_next_1 : List UInt8 := [159, 0, 17, 42, 180, 0, 9, 42, 180, 0, 19, 51, 16, 10, 160, 0, 16, 42, 89, 180, 0, 19, 4, 96]
abbrev dktX3_next_1 : List UInt8 := dkwX3_next_1 ++ dktX3_next_2
def dkwX3_next_0 : List UInt8 := [42, 180, 0, 19, 42, 180, 0, 15, 162, 0, 44, 42, 180, 0, 9, 42, 180, 0, 19, 51, 16, 32]
abbrev dktX3_next_0 : List UInt8 := dkwX3_next_0 ++ dktX3_next_1
theorem dksX3_next_0 : cX3_next.data.toList.drop 0 = dktX3_next_0 := by decide +kernel
theorem dksX3_next_1 : cX3_next.data.toList.drop 22 = dktX3_next_1 := dk_seg dksX3_next_0 22 rfl rfl
theorem dksX3_next_2 : cX3_next.data.toList.drop 46 = dktX3_next_2 := dk_seg dksX3_next_1 24 rfl rfl
theorem dksX3_next_3 : cX3_next.data.toList.drop 68 = dktX3_next_3 := dk_seg dksX3_next_2 22 rfl rfl
theorem dksX3_next_4 : cX3_next.data.toList.drop 90 = dktX3_next_4 := dk_seg dksX3_next_3 22 rfl rfl
theorem dksX3_next_5 : cX3_next.data.toList.drop 112 = dktX3_next_5 := dk_seg dksX3_next_4 22 rfl rfl
theorem dksX3_next_6 : cX3_next.data.toList.drop 136 = dktX3_next_6 := dk_seg dksX3_next_5 24 rfl rfl
theorem dksX3_next_7 : cX3_next.data.toList.drop 158 = dktX3_next_7 := dk_seg dksX3_next_6 22 rfl rfl
theorem dksX3_next_8 : cX3_next.data.toList.drop 182 = dktX3_next_8 := dk_seg dksX3_next_7 24 rfl rfl
theorem dksX3_next_9 : cX3_next.data.toList.drop 206 = dktX3_next_9 := dk_seg dksX3_next_8 24 rfl rfl
theorem dksX3_next_10 : cX3_next.data.toList.drop 229 = dktX3_next_10 := dk_seg dksX3_next_9 23 rfl rfl
theorem dksX3_next_11 : cX3_next.data.toList.drop 253 = dktX3_next_11 := dk_seg dksX3_next_10 24 rfl rfl
theorem dksX3_next_12 : cX3_next.data.toList.drop 277 = dktX3_next_12 := dk_seg dksX3_next_11 24 rfl rfl
theorem dksX3_next_13 : cX3_next.data.toList.drop 301 = dktX3_next_13 := dk_seg dksX3_next_12 24 rfl rfl
theorem dksX3_next_14 : cX3_next.data.toList.drop 325 = dktX3_next_14 := dk_seg dksX3_next_13 24 rfl rfl
theorem dksX3_next_15 : cX3_next.data.toList.drop 349 = dktX3_next_15 := dk_seg dksX3_next_14 24 rfl rfl
theorem dksX3_next_16 : cX3_next.data.toList.drop 373 = dktX3_next_16 := dk_seg dksX3_next_15 24 rfl rfl
theorem dksX3_next_17 : cX3_next.data.toList.drop 397 = dktX3_next_17 := dk_seg dksX3_next_16 24 rfl rfl
theorem dX3_next_0 : decode cX3_next 0 = .ok (.aload_n 0, 1) := dk_42 (dk_at dksX3_next_0 0 rfl rfl)
theorem dX3_next_1 : decode cX3_next 1 = .ok (.getfield 19, 3) := dk_180 0 19 (dk_at dksX3_next_0 1 rfl rfl)
theorem dX3_next_4 : decode cX3_next 4 = .ok (.aload_n 0, 1) := dk_42 (dk_at dksX3_next_0 4 rfl rfl)
theorem dX3_next_5 : decode cX3_next 5 = .ok (.getfield 15, 3) := dk_180 0 15 (dk_at dksX3_next_0 5 rfl rfl)
theorem dX3_next_8 : decode cX3_next 8 = .ok (.if_icmp .ge 44, 3) := dk_162 0 44 (dk_at dksX3_next_0 8 rfl rfl)
theorem dX3_next_11 : decode cX3_next 11 = .ok (.aload_n 0, 1) := dk_42 (dk_at dksX3_next_0 11 rfl rfl)
theorem dX3_next_12 : decode cX3_next 12 = .ok (.getfield 9, 3) := dk_180 0 9 (dk_at dksX3_next_0 12 rfl rfl)
theorem dX3_next_15 : decode cX3_next 15 = .ok (.aload_n 0, 1) := dk_42 (dk_at dksX3_next_0 15 rfl rfl)
theorem dX3_next_16 : decode cX3_next 16 = .ok (.getfield 19, 3) := dk_180 0 19 (dk_at dksX3_next_0 16 rfl rfl)
theorem dX3_next_19 : decode cX3_next 19 = .ok (.baload, 1) := dk_51 (dk_at dksX3_next_0 19 rfl rfl)
theorem dX3_next_20 : decode cX3_next 20 = .ok (.bipush 32, 2) := dk_16 32 (dk_at dksX3_next_0 20 rfl rfl)
theorem dX3_next_22 : decode cX3_next 22 = .ok (.if_icmp .eq 17, 3) := dk_159 0 17 (dk_at dksX3_next_1 0 rfl rfl)
theorem dX3_next_25 : decode cX3_next 25 = .ok (.aload_n 0, 1) := dk_42 (dk_at dksX3_next_1 3 rfl rfl)
theorem dX3_next_26 : decode cX3_next 26 = .ok (.getfield 9, 3) := dk_180 0 9 (dk_at dksX3_next_1 4 rfl rfl)
theorem dX3_next_29 : decode cX3_next 29 = .ok (.aload_n 0, 1) := dk_42 (dk_at dksX3_next_1 7 rfl rfl)
theorem dX3_next_30 : decode cX3_next 30 = .ok (.getfield 19, 3) := dk_180 0 19 (dk_at dksX3_next_1 8 rfl rfl)
theorem dX3_next_33 : decode cX3_next 33 = .ok (.baload, 1) := dk_51 (dk_at dksX3_next_1 11 rfl rfl)
theorem dX3_next_34 : decode cX3_next 34 = .ok (.bipush 10, 2) := dk_16 10 (dk_at dksX3_next_1 12 rfl rfl)
theorem dX3_next_36 : decode cX3_next 36 = .ok (.if_icmp .ne 16, 3) := dk_160 0 16 (dk_at dksX3_next_1 14 rfl rfl)
theorem dX3_next_39 : decode cX3_next 39 = .ok (.aload_n 0, 1) := dk_42 (dk_at dksX3_next_1 17 rfl rfl)
theorem dX3_next_40 : decode cX3_next 40 = .ok (.dup, 1) := dk_89 (dk_at dksX3_next_1 18 rfl rfl)
theorem dX3_next_41 : decode cX3_next 41 = .ok (.getfield 19, 3) := dk_180 0 19 (dk_at dksX3_next_1 19 rfl rfl)
theorem dX3_next_44 : decode cX3_next 44 = .ok (.iconst 1, 1) := dk_4 (dk_at dksX3_next_1 22 rfl rfl)
theorem dX3_next_45 : decode cX3_next 45 = .ok (.iadd, 1) := dk_96 (dk_at dksX3_next_1 23 rfl rfl)
theorem dX3_next_46 : decode cX3_next 46 = .ok (.putfield 19, 3) := dk_181 0 19 (dk_at dksX3_next_2 0 rfl rfl)
theorem dX3_next_49 : decode cX3_next 49 = .ok (.goto (-49), 3) := dk_167 255 207 (dk_at dksX3_next_2 3 rfl rfl)
theorem dX3_next_52 : decode cX3_next 52 = .ok (.aload_n 0, 1) := dk_42 (dk_at dksX3_next_2 6 rfl rfl)
theorem dX3_next_53 : decode cX3_next 53 = .ok (.aload_n 0, 1) := dk_42 (dk_at dksX3_next_2 7 rfl rfl)
theorem dX3_next_54 : decode cX3_next 54 = .ok (.getfield 19, 3) := dk_180 0 19 (dk_at dksX3_next_2 8 rfl rfl)
theorem dX3_next_57 : decode cX3_next 57 = .ok (.putfield 22, 3) := dk_181 0 22 (dk_at dksX3_next_2 11 rfl rfl)
theorem dX3_next_60 : decode cX3_next 60 = .ok (.aload_n 0, 1) := dk_42 (dk_at dksX3_next_2 14 rfl rfl)
theorem dX3_next_61 : decode cX3_next 61 = .ok (.getfield 19, 3) := dk_180 0 19 (dk_at dksX3_next_2 15 rfl rfl)
theorem dX3_next_64 : decode cX3_next 64 = .ok (.aload_n 0, 1) := dk_42 (dk_at dksX3_next_2 18 rfl rfl)
theorem dX3_next_65 : decode cX3_next 65 = .ok (.getfield 15, 3) := dk_180 0 15 (dk_at dksX3_next_2 19 rfl rfl)
theorem dX3_next_68 : decode cX3_next 68 = .ok (.if_icmp .ne 13, 3) := dk_160 0 13 (dk_at dksX3_next_3 0 rfl rfl)
theorem dX3_next_71 : decode cX3_next 71 = .ok (.aload_n 0, 1) := dk_42 (dk_at dksX3_next_3 3 rfl rfl)
theorem dX3_next_72 : decode cX3_next 72 = .ok (.sipush 301, 3) := dk_17 1 45 (dk_at dksX3_next_3 4 rfl rfl)
theorem dX3_next_75 : decode cX3_next 75 = .ok (.putfield 25, 3) := dk_181 0 25 (dk_at dksX3_next_3 7 rfl rfl)
theorem dX3_next_78 : decode cX3_next 78 = .ok (.goto 324, 3) := dk_167 1 68 (dk_at dksX3_next_3 10 rfl rfl)
theorem dX3_next_81 : decode cX3_next 81 = .ok (.aload_n 0, 1) := dk_42 (dk_at dksX3_next_3 13 rfl rfl)
theorem dX3_next_82 : decode cX3_next 82 = .ok (.getfield 9, 3) := dk_180 0 9 (dk_at dksX3_next_3 14 rfl rfl)
theorem dX3_next_85 : decode cX3_next 85 = .ok (.aload_n 0, 1) := dk_42 (dk_at dksX3_next_3 17 rfl rfl)
theorem dX3_next_86 : decode cX3_next 86 = .ok (.getfield 19, 3) := dk_180 0 19 (dk_at dksX3_next_3 18 rfl rfl)
theorem dX3_next_89 : decode cX3_next 89 = .ok (.baload, 1) := dk_51 (dk_at dksX3_next_3 21 rfl rfl)
theorem dX3_next_90 : decode cX3_next 90 = .ok (.invokestatic 28, 3) := dk_184 0 28 (dk_at dksX3_next_4 0 rfl rfl)
theorem dX3_next_93 : decode cX3_next 93 = .ok (.ifCond .eq 89, 3) := dk_153 0 89 (dk_at dksX3_next_4 3 rfl rfl)
theorem dX3_next_96 : decode cX3_next 96 = .ok (.aload_n 0, 1) := dk_42 (dk_at dksX3_next_4 6 rfl rfl)
theorem dX3_next_97 : decode cX3_next 97 = .ok (.getfield 19, 3) := dk_180 0 19 (dk_at dksX3_next_4 7 rfl rfl)
theorem dX3_next_100 : decode cX3_next 100 = .ok (.aload_n 0, 1) := dk_42 (dk_at dksX3_next_4 10 rfl rfl)
theorem dX3_next_101 : decode cX3_next 101 = .ok (.getfield 15, 3) := dk_180 0 15 (dk_at dksX3_next_4 11 rfl rfl)
theorem dX3_next_104 : decode cX3_next 104 = .ok (.if_icmp .ge 31, 3) := dk_162 0 31 (dk_at dksX3_next_4 14 rfl rfl)
theorem dX3_next_107 : decode cX3_next 107 = .ok (.aload_n 0, 1) := dk_42 (dk_at dksX3_next_4 17 rfl rfl)
theorem dX3_next_108 : decode cX3_next 108 = .ok (.getfield 9, 3) := dk_180 0 9 (dk_at dksX3_next_4 18 rfl rfl)
theorem dX3_next_111 : decode cX3_next 111 = .ok (.aload_n 0, 1) := dk_42 (dk_at dksX3_next_4 21 rfl rfl)
theorem dX3_next_112 : decode cX3_next 112 = .ok (.getfield 19, 3) := dk_180 0 19 (dk_at dksX3_next_5 0 rfl rfl)
theorem dX3_next_115 : decode cX3_next 115 = .ok (.baload, 1) := dk_51 (dk_at dksX3_next_5 3 rfl rfl)
theorem dX3_next_116 : decode cX3_next 116 = .ok (.invokestatic 28, 3) := dk_184 0 28 (dk_at dksX3_next_5 4 rfl rfl)
theorem dX3_next_119 : decode cX3_next 119 = .ok (.ifCond .eq 16, 3) := dk_153 0 16 (dk_at dksX3_next_5 7 rfl rfl)
theorem dX3_next_122 : decode cX3_next 122 = .ok (.aload_n 0, 1) := dk_42 (dk_at dksX3_next_5 10 rfl rfl)
theorem dX3_next_123 : decode cX3_next 123 = .ok (.dup, 1) := dk_89 (dk_at dksX3_next_5 11 rfl rfl)
theorem dX3_next_124 : decode cX3_next 124 = .ok (.getfield 19, 3) := dk_180 0 19 (dk_at dksX3_next_5 12 rfl rfl)
theorem dX3_next_127 : decode cX3_next 127 = .ok (.iconst 1, 1) := dk_4 (dk_at dksX3_next_5 15 rfl rfl)
theorem dX3_next_128 : decode cX3_next 128 = .ok (.iadd, 1) := dk_96 (dk_at dksX3_next_5 16 rfl rfl)
theorem dX3_next_129 : decode cX3_next 129 = .ok (.putfield 19, 3) := dk_181 0 19 (dk_at dksX3_next_5 17 rfl rfl)
theorem dX3_next_132 : decode cX3_next 132 = .ok (.goto (-36), 3) := dk_167 255 220 (dk_at dksX3_next_5 20 rfl rfl)
theorem dX3_next_135 : decode cX3_next 135 = .ok (.aload_n 0, 1) := dk_42 (dk_at dksX3_next_5 23 rfl rfl)
theorem dX3_next_136 : decode cX3_next 136 = .ok (.sipush 302, 3) := dk_17 1 46 (dk_at dksX3_next_6 0 rfl rfl)
theorem dX3_next_139 : decode cX3_next 139 = .ok (.putfield 25, 3) := dk_181 0 25 (dk_at dksX3_next_6 3 rfl rfl)
theorem dX3_next_142 : decode cX3_next 142 = .ok (.iconst 0, 1) := dk_3 (dk_at dksX3_next_6 6 rfl rfl)
theorem dX3_next_143 : decode cX3_next 143 = .ok (.istore_n 1, 1) := dk_60 (dk_at dksX3_next_6 7 rfl rfl)
theorem dX3_next_144 : decode cX3_next 144 = .ok (.iload_n 1, 1) := dk_27 (dk_at dksX3_next_6 8 rfl rfl)
theorem dX3_next_145 : decode cX3_next 145 = .ok (.getstatic 32, 3) := dk_178 0 32 (dk_at dksX3_next_6 9 rfl rfl)
theorem dX3_next_148 : decode cX3_next 148 = .ok (.arraylength, 1) := dk_190 (dk_at dksX3_next_6 12 rfl rfl)
theorem dX3_next_149 : decode cX3_next 149 = .ok (.if_icmp .ge 30, 3) := dk_162 0 30 (dk_at dksX3_next_6 13 rfl rfl)
theorem dX3_next_152 : decode cX3_next 152 = .ok (.aload_n 0, 1) := dk_42 (dk_at dksX3_next_6 16 rfl rfl)
theorem dX3_next_153 : decode cX3_next 153 = .ok (.getstatic 32, 3) := dk_178 0 32 (dk_at dksX3_next_6 17 rfl rfl)
theorem dX3_next_156 : decode cX3_next 156 = .ok (.iload_n 1, 1) := dk_27 (dk_at dksX3_next_6 20 rfl rfl)
theorem dX3_next_157 : decode cX3_next 157 = .ok (.aaload, 1) := dk_50 (dk_at dksX3_next_6 21 rfl rfl)
theorem dX3_next_158 : decode cX3_next 158 = .ok (.invokevirtual 36, 3) := dk_182 0 36 (dk_at dksX3_next_7 0 rfl rfl)
theorem dX3_next_161 : decode cX3_next 161 = .ok (.ifCond .eq 12, 3) := dk_153 0 12 (dk_at dksX3_next_7 3 rfl rfl)
theorem dX3_next_164 : decode cX3_next 164 = .ok (.aload_n 0, 1) := dk_42 (dk_at dksX3_next_7 6 rfl rfl)
theorem dX3_next_165 : decode cX3_next 165 = .ok (.sipush 200, 3) := dk_17 0 200 (dk_at dksX3_next_7 7 rfl rfl)
theorem dX3_next_168 : decode cX3_next 168 = .ok (.iload_n 1, 1) := dk_27 (dk_at dksX3_next_7 10 rfl rfl)
theorem dX3_next_169 : decode cX3_next 169 = .ok (.iadd, 1) := dk_96 (dk_at dksX3_next_7 11 rfl rfl)
theorem dX3_next_170 : decode cX3_next 170 = .ok (.putfield 25, 3) := dk_181 0 25 (dk_at dksX3_next_7 12 rfl rfl)
theorem dX3_next_173 : decode cX3_next 173 = .ok (.iinc 1 1, 3) := dk_132 1 1 (dk_at dksX3_next_7 15 rfl rfl)
theorem dX3_next_176 : decode cX3_next 176 = .ok (.goto (-32), 3) := dk_167 255 224 (dk_at dksX3_next_7 18 rfl rfl)
theorem dX3_next_179 : decode cX3_next 179 = .ok (.goto 223, 3) := dk_167 0 223 (dk_at dksX3_next_7 21 rfl rfl)
theorem dX3_next_182 : decode cX3_next 182 = .ok (.aload_n 0, 1) := dk_42 (dk_at dksX3_next_8 0 rfl rfl)
theorem dX3_next_183 : decode cX3_next 183 = .ok (.getfield 9, 3) := dk_180 0 9 (dk_at dksX3_next_8 1 rfl rfl)
theorem dX3_next_186 : decode cX3_next 186 = .ok (.aload_n 0, 1) := dk_42 (dk_at dksX3_next_8 4 rfl rfl)
theorem dX3_next_187 : decode cX3_next 187 = .ok (.getfield 19, 3) := dk_180 0 19 (dk_at dksX3_next_8 5 rfl rfl)
theorem dX3_next_190 : decode cX3_next 190 = .ok (.baload, 1) := dk_51 (dk_at dksX3_next_8 8 rfl rfl)
theorem dX3_next_191 : decode cX3_next 191 = .ok (.invokestatic 40, 3) := dk_184 0 40 (dk_at dksX3_next_8 9 rfl rfl)
theorem dX3_next_194 : decode cX3_next 194 = .ok (.ifCond .eq 83, 3) := dk_153 0 83 (dk_at dksX3_next_8 12 rfl rfl)
theorem dX3_next_197 : decode cX3_next 197 = .ok (.aload_n 0, 1) := dk_42 (dk_at dksX3_next_8 15 rfl rfl)
theorem dX3_next_198 : decode cX3_next 198 = .ok (.sipush 300, 3) := dk_17 1 44 (dk_at dksX3_next_8 16 rfl rfl)
theorem dX3_next_201 : decode cX3_next 201 = .ok (.putfield 25, 3) := dk_181 0 25 (dk_at dksX3_next_8 19 rfl rfl)
theorem dX3_next_204 : decode cX3_next 204 = .ok (.aload_n 0, 1) := dk_42 (dk_at dksX3_next_8 22 rfl rfl)
theorem dX3_next_205 : decode cX3_next 205 = .ok (.iconst 0, 1) := dk_3 (dk_at dksX3_next_8 23 rfl rfl)
theorem dX3_next_206 : decode cX3_next 206 = .ok (.putfield 43, 3) := dk_181 0 43 (dk_at dksX3_next_9 0 rfl rfl)
theorem dX3_next_209 : decode cX3_next 209 = .ok (.aload_n 0, 1) := dk_42 (dk_at dksX3_next_9 3 rfl rfl)
theorem dX3_next_210 : decode cX3_next 210 = .ok (.getfield 19, 3) := dk_180 0 19 (dk_at dksX3_next_9 4 rfl rfl)
theorem dX3_next_213 : decode cX3_next 213 = .ok (.aload_n 0, 1) := dk_42 (dk_at dksX3_next_9 7 rfl rfl)
theorem dX3_next_214 : decode cX3_next 214 = .ok (.getfield 15, 3) := dk_180 0 15 (dk_at dksX3_next_9 8 rfl rfl)
theorem dX3_next_217 : decode cX3_next 217 = .ok (.if_icmp .ge 185, 3) := dk_162 0 185 (dk_at dksX3_next_9 11 rfl rfl)
theorem dX3_next_220 : decode cX3_next 220 = .ok (.aload_n 0, 1) := dk_42 (dk_at dksX3_next_9 14 rfl rfl)
theorem dX3_next_221 : decode cX3_next 221 = .ok (.getfield 9, 3) := dk_180 0 9 (dk_at dksX3_next_9 15 rfl rfl)
theorem dX3_next_224 : decode cX3_next 224 = .ok (.aload_n 0, 1) := dk_42 (dk_at dksX3_next_9 18 rfl rfl)
theorem dX3_next_225 : decode cX3_next 225 = .ok (.getfield 19, 3) := dk_180 0 19 (dk_at dksX3_next_9 19 rfl rfl)
theorem dX3_next_228 : decode cX3_next 228 = .ok (.baload, 1) := dk_51 (dk_at dksX3_next_9 22 rfl rfl)
theorem dX3_next_229 : decode cX3_next 229 = .ok (.invokestatic 40, 3) := dk_184 0 40 (dk_at dksX3_next_10 0 rfl rfl)
theorem dX3_next_232 : decode cX3_next 232 = .ok (.ifCond .eq 170, 3) := dk_153 0 170 (dk_at dksX3_next_10 3 rfl rfl)
theorem dX3_next_235 : decode cX3_next 235 = .ok (.aload_n 0, 1) := dk_42 (dk_at dksX3_next_10 6 rfl rfl)
theorem dX3_next_236 : decode cX3_next 236 = .ok (.ldc 46, 2) := dk_18 46 (dk_at dksX3_next_10 7 rfl rfl)
theorem dX3_next_238 : decode cX3_next 238 = .ok (.bipush 10, 2) := dk_16 10 (dk_at dksX3_next_10 9 rfl rfl)
theorem dX3_next_240 : decode cX3_next 240 = .ok (.aload_n 0, 1) := dk_42 (dk_at dksX3_next_10 11 rfl rfl)
theorem dX3_next_241 : decode cX3_next 241 = .ok (.getfield 43, 3) := dk_180 0 43 (dk_at dksX3_next_10 12 rfl rfl)
theorem dX3_next_244 : decode cX3_next 244 = .ok (.imul, 1) := dk_104 (dk_at dksX3_next_10 15 rfl rfl)
theorem dX3_next_245 : decode cX3_next 245 = .ok (.aload_n 0, 1) := dk_42 (dk_at dksX3_next_10 16 rfl rfl)
theorem dX3_next_246 : decode cX3_next 246 = .ok (.getfield 9, 3) := dk_180 0 9 (dk_at dksX3_next_10 17 rfl rfl)
theorem dX3_next_249 : decode cX3_next 249 = .ok (.aload_n 0, 1) := dk_42 (dk_at dksX3_next_10 20 rfl rfl)
theorem dX3_next_250 : decode cX3_next 250 = .ok (.getfield 19, 3) := dk_180 0 19 (dk_at dksX3_next_10 21 rfl rfl)
theorem dX3_next_253 : decode cX3_next 253 = .ok (.baload, 1) := dk_51 (dk_at dksX3_next_11 0 rfl rfl)
theorem dX3_next_254 : decode cX3_next 254 = .ok (.iadd, 1) := dk_96 (dk_at dksX3_next_11 1 rfl rfl)
theorem dX3_next_255 : decode cX3_next 255 = .ok (.bipush 48, 2) := dk_16 48 (dk_at dksX3_next_11 2 rfl rfl)
theorem dX3_next_257 : decode cX3_next 257 = .ok (.isub, 1) := dk_100 (dk_at dksX3_next_11 4 rfl rfl)
theorem dX3_next_258 : decode cX3_next 258 = .ok (.invokestatic 47, 3) := dk_184 0 47 (dk_at dksX3_next_11 5 rfl rfl)
theorem dX3_next_261 : decode cX3_next 261 = .ok (.putfield 43, 3) := dk_181 0 43 (dk_at dksX3_next_11 8 rfl rfl)
theorem dX3_next_264 : decode cX3_next 264 = .ok (.aload_n 0, 1) := dk_42 (dk_at dksX3_next_11 11 rfl rfl)
theorem dX3_next_265 : decode cX3_next 265 = .ok (.dup, 1) := dk_89 (dk_at dksX3_next_11 12 rfl rfl)
theorem dX3_next_266 : decode cX3_next 266 = .ok (.getfield 19, 3) := dk_180 0 19 (dk_at dksX3_next_11 13 rfl rfl)
theorem dX3_next_269 : decode cX3_next 269 = .ok (.iconst 1, 1) := dk_4 (dk_at dksX3_next_11 16 rfl rfl)
theorem dX3_next_270 : decode cX3_next 270 = .ok (.iadd, 1) := dk_96 (dk_at dksX3_next_11 17 rfl rfl)
theorem dX3_next_271 : decode cX3_next 271 = .ok (.putfield 19, 3) := dk_181 0 19 (dk_at dksX3_next_11 18 rfl rfl)
theorem dX3_next_274 : decode cX3_next 274 = .ok (.goto (-65), 3) := dk_167 255 191 (dk_at dksX3_next_11 21 rfl rfl)
theorem dX3_next_277 : decode cX3_next 277 = .ok (.aload_n 0, 1) := dk_42 (dk_at dksX3_next_12 0 rfl rfl)
theorem dX3_next_278 : decode cX3_next 278 = .ok (.getfield 9, 3) := dk_180 0 9 (dk_at dksX3_next_12 1 rfl rfl)
theorem dX3_next_281 : decode cX3_next 281 = .ok (.aload_n 0, 1) := dk_42 (dk_at dksX3_next_12 4 rfl rfl)
theorem dX3_next_282 : decode cX3_next 282 = .ok (.getfield 19, 3) := dk_180 0 19 (dk_at dksX3_next_12 5 rfl rfl)
theorem dX3_next_285 : decode cX3_next 285 = .ok (.baload, 1) := dk_51 (dk_at dksX3_next_12 8 rfl rfl)
theorem dX3_next_286 : decode cX3_next 286 = .ok (.istore_n 1, 1) := dk_60 (dk_at dksX3_next_12 9 rfl rfl)
theorem dX3_next_287 : decode cX3_next 287 = .ok (.aload_n 0, 1) := dk_42 (dk_at dksX3_next_12 10 rfl rfl)
theorem dX3_next_288 : decode cX3_next 288 = .ok (.dup, 1) := dk_89 (dk_at dksX3_next_12 11 rfl rfl)
theorem dX3_next_289 : decode cX3_next 289 = .ok (.getfield 19, 3) := dk_180 0 19 (dk_at dksX3_next_12 12 rfl rfl)
theorem dX3_next_292 : decode cX3_next 292 = .ok (.iconst 1, 1) := dk_4 (dk_at dksX3_next_12 15 rfl rfl)
theorem dX3_next_293 : decode cX3_next 293 = .ok (.iadd, 1) := dk_96 (dk_at dksX3_next_12 16 rfl rfl)
theorem dX3_next_294 : decode cX3_next 294 = .ok (.putfield 19, 3) := dk_181 0 19 (dk_at dksX3_next_12 17 rfl rfl)
theorem dX3_next_297 : decode cX3_next 297 = .ok (.aload_n 0, 1) := dk_42 (dk_at dksX3_next_12 20 rfl rfl)
theorem dX3_next_298 : decode cX3_next 298 = .ok (.sipush 302, 3) := dk_17 1 46 (dk_at dksX3_next_12 21 rfl rfl)
theorem dX3_next_301 : decode cX3_next 301 = .ok (.putfield 25, 3) := dk_181 0 25 (dk_at dksX3_next_13 0 rfl rfl)
theorem dX3_next_304 : decode cX3_next 304 = .ok (.iconst 0, 1) := dk_3 (dk_at dksX3_next_13 3 rfl rfl)
theorem dX3_next_305 : decode cX3_next 305 = .ok (.istore_n 2, 1) := dk_61 (dk_at dksX3_next_13 4 rfl rfl)
theorem dX3_next_306 : decode cX3_next 306 = .ok (.iload_n 2, 1) := dk_28 (dk_at dksX3_next_13 5 rfl rfl)
theorem dX3_next_307 : decode cX3_next 307 = .ok (.ldc 53, 2) := dk_18 53 (dk_at dksX3_next_13 6 rfl rfl)
theorem dX3_next_309 : decode cX3_next 309 = .ok (.invokevirtual 55, 3) := dk_182 0 55 (dk_at dksX3_next_13 8 rfl rfl)
theorem dX3_next_312 : decode cX3_next 312 = .ok (.if_icmp .ge 24, 3) := dk_162 0 24 (dk_at dksX3_next_13 11 rfl rfl)
theorem dX3_next_315 : decode cX3_next 315 = .ok (.ldc 53, 2) := dk_18 53 (dk_at dksX3_next_13 14 rfl rfl)
theorem dX3_next_317 : decode cX3_next 317 = .ok (.iload_n 2, 1) := dk_28 (dk_at dksX3_next_13 16 rfl rfl)
theorem dX3_next_318 : decode cX3_next 318 = .ok (.invokevirtual 61, 3) := dk_182 0 61 (dk_at dksX3_next_13 17 rfl rfl)
theorem dX3_next_321 : decode cX3_next 321 = .ok (.iload_n 1, 1) := dk_27 (dk_at dksX3_next_13 20 rfl rfl)
theorem dX3_next_322 : decode cX3_next 322 = .ok (.if_icmp .ne 8, 3) := dk_160 0 8 (dk_at dksX3_next_13 21 rfl rfl)
theorem dX3_next_325 : decode cX3_next 325 = .ok (.aload_n 0, 1) := dk_42 (dk_at dksX3_next_14 0 rfl rfl)
theorem dX3_next_326 : decode cX3_next 326 = .ok (.iload_n 1, 1) := dk_27 (dk_at dksX3_next_14 1 rfl rfl)
theorem dX3_next_327 : decode cX3_next 327 = .ok (.putfield 25, 3) := dk_181 0 25 (dk_at dksX3_next_14 2 rfl rfl)
theorem dX3_next_330 : decode cX3_next 330 = .ok (.iinc 2 1, 3) := dk_132 2 1 (dk_at dksX3_next_14 5 rfl rfl)
theorem dX3_next_333 : decode cX3_next 333 = .ok (.goto (-27), 3) := dk_167 255 229 (dk_at dksX3_next_14 8 rfl rfl)
theorem dX3_next_336 : decode cX3_next 336 = .ok (.iload_n 1, 1) := dk_27 (dk_at dksX3_next_14 11 rfl rfl)
theorem dX3_next_337 : decode cX3_next 337 = .ok (.bipush 60, 2) := dk_16 60 (dk_at dksX3_next_14 12 rfl rfl)
theorem dX3_next_339 : decode cX3_next 339 = .ok (.if_icmp .eq 9, 3) := dk_159 0 9 (dk_at dksX3_next_14 14 rfl rfl)
theorem dX3_next_342 : decode cX3_next 342 = .ok (.iload_n 1, 1) := dk_27 (dk_at dksX3_next_14 17 rfl rfl)
theorem dX3_next_343 : decode cX3_next 343 = .ok (.bipush 62, 2) := dk_16 62 (dk_at dksX3_next_14 18 rfl rfl)
theorem dX3_next_345 : decode cX3_next 345 = .ok (.if_icmp .ne 57, 3) := dk_160 0 57 (dk_at dksX3_next_14 20 rfl rfl)
theorem dX3_next_348 : decode cX3_next 348 = .ok (.aload_n 0, 1) := dk_42 (dk_at dksX3_next_14 23 rfl rfl)
theorem dX3_next_349 : decode cX3_next 349 = .ok (.getfield 19, 3) := dk_180 0 19 (dk_at dksX3_next_15 0 rfl rfl)
theorem dX3_next_352 : decode cX3_next 352 = .ok (.aload_n 0, 1) := dk_42 (dk_at dksX3_next_15 3 rfl rfl)
theorem dX3_next_353 : decode cX3_next 353 = .ok (.getfield 15, 3) := dk_180 0 15 (dk_at dksX3_next_15 4 rfl rfl)
theorem dX3_next_356 : decode cX3_next 356 = .ok (.if_icmp .ge 46, 3) := dk_162 0 46 (dk_at dksX3_next_15 7 rfl rfl)
theorem dX3_next_359 : decode cX3_next 359 = .ok (.aload_n 0, 1) := dk_42 (dk_at dksX3_next_15 10 rfl rfl)
theorem dX3_next_360 : decode cX3_next 360 = .ok (.getfield 9, 3) := dk_180 0 9 (dk_at dksX3_next_15 11 rfl rfl)
theorem dX3_next_363 : decode cX3_next 363 = .ok (.aload_n 0, 1) := dk_42 (dk_at dksX3_next_15 14 rfl rfl)
theorem dX3_next_364 : decode cX3_next 364 = .ok (.getfield 19, 3) := dk_180 0 19 (dk_at dksX3_next_15 15 rfl rfl)
theorem dX3_next_367 : decode cX3_next 367 = .ok (.baload, 1) := dk_51 (dk_at dksX3_next_15 18 rfl rfl)
theorem dX3_next_368 : decode cX3_next 368 = .ok (.bipush 61, 2) := dk_16 61 (dk_at dksX3_next_15 19 rfl rfl)
theorem dX3_next_370 : decode cX3_next 370 = .ok (.if_icmp .ne 32, 3) := dk_160 0 32 (dk_at dksX3_next_15 21 rfl rfl)
theorem dX3_next_373 : decode cX3_next 373 = .ok (.aload_n 0, 1) := dk_42 (dk_at dksX3_next_16 0 rfl rfl)
theorem dX3_next_374 : decode cX3_next 374 = .ok (.iload_n 1, 1) := dk_27 (dk_at dksX3_next_16 1 rfl rfl)
theorem dX3_next_375 : decode cX3_next 375 = .ok (.bipush 60, 2) := dk_16 60 (dk_at dksX3_next_16 2 rfl rfl)
theorem dX3_next_377 : decode cX3_next 377 = .ok (.if_icmp .ne 9, 3) := dk_160 0 9 (dk_at dksX3_next_16 4 rfl rfl)
theorem dX3_next_380 : decode cX3_next 380 = .ok (.sipush 303, 3) := dk_17 1 47 (dk_at dksX3_next_16 7 rfl rfl)
theorem dX3_next_383 : decode cX3_next 383 = .ok (.goto 6, 3) := dk_167 0 6 (dk_at dksX3_next_16 10 rfl rfl)
theorem dX3_next_386 : decode cX3_next 386 = .ok (.sipush 304, 3) := dk_17 1 48 (dk_at dksX3_next_16 13 rfl rfl)
theorem dX3_next_389 : decode cX3_next 389 = .ok (.putfield 25, 3) := dk_181 0 25 (dk_at dksX3_next_16 16 rfl rfl)
theorem dX3_next_392 : decode cX3_next 392 = .ok (.aload_n 0, 1) := dk_42 (dk_at dksX3_next_16 19 rfl rfl)
theorem dX3_next_393 : decode cX3_next 393 = .ok (.dup, 1) := dk_89 (dk_at dksX3_next_16 20 rfl rfl)
theorem dX3_next_394 : decode cX3_next 394 = .ok (.getfield 19, 3) := dk_180 0 19 (dk_at dksX3_next_16 21 rfl rfl)
theorem dX3_next_397 : decode cX3_next 397 = .ok (.iconst 1, 1) := dk_4 (dk_at dksX3_next_17 0 rfl rfl)
theorem dX3_next_398 : decode cX3_next 398 = .ok (.iadd, 1) := dk_96 (dk_at dksX3_next_17 1 rfl rfl)
theorem dX3_next_399 : decode cX3_next 399 = .ok (.putfield 19, 3) := dk_181 0 19 (dk_at dksX3_next_17 2 rfl rfl)
theorem dX3_next_402 : decode cX3_next 402 = .ok (.return_, 1) := dk_177 (dk_at dksX3_next_17 5 rfl rfl)
def dkwX3_isLetter_1 : List UInt8 := [4, 167, 0, 4, 3, 172]
abbrev dktX3_isLetter_1 : List UInt8 := dkwX3_isLetter_1 ++ []
def dkwX3_isLetter_0 : List UInt8 := [26, 16, 97, 161, 0, 9, 26, 16, 122, 164, 0, 15, 26, 16, 65, 161, 0, 13, 26, 16, 90, 163, 0, 7]
abbrev dktX3_isLetter_0 : List UInt8 := dkwX3_isLetter_0 ++ dktX3_isLetter_1
theorem dksX3_isLetter_0 : cX3_isLetter.data.toList.drop 0 = dktX3_isLetter_0 := by decide +kernel
theorem dksX3_isLetter_1 : cX3_isLetter.data.toList.drop 24 = dktX3_isLetter_1 := dk_seg dksX3_isLetter_0 24 rfl rfl
theorem dX3_isLetter_0 : decode cX3_isLetter 0 = .ok (.iload_n 0, 1) := dk_26 (dk_at dksX3_isLetter_0 0 rfl rfl)
theorem dX3_isLetter_1 : decode cX3_isLetter 1 = .ok (.bipush 97, 2) := dk_16 97 (dk_at dksX3_isLetter_0 1 rfl rfl)
theorem dX3_isLetter_3 : decode cX3_isLetter 3 = .ok (.if_icmp .lt 9, 3) := dk_161 0 9 (dk_at dksX3_isLetter_0 3 rfl rfl)
theorem dX3_isLetter_6 : decode cX3_isLetter 6 = .ok (.iload_n 0, 1) := dk_26 (dk_at dksX3_isLetter_0 6 rfl rfl)
theorem dX3_isLetter_7 : decode cX3_isLetter 7 = .ok (.bipush 122, 2) := dk_16 122 (dk_at dksX3_isLetter_0 7 rfl rfl)
theorem dX3_isLetter_9 : decode cX3_isLetter 9 = .ok (.if_icmp .le 15, 3) := dk_164 0 15 (dk_at dksX3_isLetter_0 9 rfl rfl)
theorem dX3_isLetter_12 : decode cX3_isLetter 12 = .ok (.iload_n 0, 1) := dk_26 (dk_at dksX3_isLetter_0 12 rfl rfl)
theorem dX3_isLetter_13 : decode cX3_isLetter 13 = .ok (.bipush 65, 2) := dk_16 65 (dk_at dksX3_isLetter_0 13 rfl rfl)
theorem dX3_isLetter_15 : decode cX3_isLetter 15 = .ok (.if_icmp .lt 13, 3) := dk_161 0 13 (dk_at dksX3_isLetter_0 15 rfl rfl)
theorem dX3_isLetter_18 : decode cX3_isLetter 18 = .ok (.iload_n 0, 1) := dk_26 (dk_at dksX3_isLetter_0 18 rfl rfl)
theorem dX3_isLetter_19 : decode cX3_isLetter 19 = .ok (.bipush 90, 2) := dk_16 90 (dk_at dksX3_isLetter_0 19 rfl rfl)
theorem dX3_isLetter_21 : decode cX3_isLetter 21 = .ok (.if_icmp .gt 7, 3) := dk_163 0 7 (dk_at dksX3_isLetter_0 21 rfl rfl)
theorem dX3_isLetter_24 : decode cX3_isLetter 24 = .ok (.iconst 1, 1) := dk_4 (dk_at dksX3_isLetter_1 0 rfl rfl)
theorem dX3_isLetter_25 : decode cX3_isLetter 25 = .ok (.goto 4, 3) := dk_167 0 4 (dk_at dksX3_isLetter_1 1 rfl rfl)
theorem dX3_isLetter_28 : decode cX3_isLetter 28 = .ok (.iconst 0, 1) := dk_3 (dk_at dksX3_isLetter_1 4 rfl rfl)
theorem dX3_isLetter_29 : decode cX3_isLetter 29 = .ok (.ireturn, 1) := dk_172 (dk_at dksX3_isLetter_1 5 rfl rfl)
def dkwX3_isWord_2 : List UInt8 := [159, 0, 5, 3, 172, 132, 2, 1, 167, 255, 224, 4, 172]
abbrev dktX3_isWord_2 : List UInt8 := dkwX3_isWord_2 ++ []
def dkwX3_isWord_1 : List UInt8 := [182, 0, 55, 162, 0, 30, 42, 180, 0, 9, 42, 180, 0, 22, 28, 96, 51, 43, 28, 182, 0, 61]
abbrev dktX3_isWord_1 : List UInt8 := dkwX3_isWord_1 ++ dktX3_isWord_2
def dkwX3_isWord_0 : List UInt8 := [42, 180, 0, 19, 42, 180, 0, 22, 100, 43, 182, 0, 55, 159, 0, 5, 3, 172, 3, 61, 28, 43]
abbrev dktX3_isWord_0 : List UInt8 := dkwX3_isWord_0 ++ dktX3_isWord_1
theorem dksX3_isWord_0 : cX3_isWord.data.toList.drop 0 = dktX3_isWord_0 := by decide +kernel
theorem dksX3_isWord_1 : cX3_isWord.data.toList.drop 22 = dktX3_isWord_1 := dk_seg dksX3_isWord_0 22 rfl rfl
theorem dksX3_isWord_2 : cX3_isWord.data.toList.drop 44 = dktX3_isWord_2 := dk_seg dksX3_isWord_1 22 rfl rfl
theorem dX3_isWord_0 : decode cX3_isWord 0 = .ok (.aload_n 0, 1) := dk_42 (dk_at dksX3_isWord_0 0 rfl rfl)
theorem dX3_isWord_1 : decode cX3_isWord 1 = .ok (.getfield 19, 3) := dk_180 0 19 (dk_at dksX3_isWord_0 1 rfl rfl)
theorem dX3_isWord_4 : decode cX3_isWord 4 = .ok (.aload_n 0, 1) := dk_42 (dk_at dksX3_isWord_0 4 rfl rfl)
theorem dX3_isWord_5 : decode cX3_isWord 5 = .ok (.getfield 22, 3) := dk_180 0 22 (dk_at dksX3_isWord_0 5 rfl rfl)
theorem dX3_isWord_8 : decode cX3_isWord 8 = .ok (.isub, 1) := dk_100 (dk_at dksX3_isWord_0 8 rfl rfl)
theorem dX3_isWord_9 : decode cX3_isWord 9 = .ok (.aload_n 1, 1) := dk_43 (dk_at dksX3_isWord_0 9 rfl rfl)
theorem dX3_isWord_10 : decode cX3_isWord 10 = .ok (.invokevirtual 55, 3) := dk_182 0 55 (dk_at dksX3_isWord_0 10 rfl rfl)
theorem dX3_isWord_13 : decode cX3_isWord 13 = .ok (.if_icmp .eq 5, 3) := dk_159 0 5 (dk_at dksX3_isWord_0 13 rfl rfl)
theorem dX3_isWord_16 : decode cX3_isWord 16 = .ok (.iconst 0, 1) := dk_3 (dk_at dksX3_isWord_0 16 rfl rfl)
theorem dX3_isWord_17 : decode cX3_isWord 17 = .ok (.ireturn, 1) := dk_172 (dk_at dksX3_isWord_0 17 rfl rfl)
theorem dX3_isWord_18 : decode cX3_isWord 18 = .ok (.iconst 0, 1) := dk_3 (dk_at dksX3_isWord_0 18 rfl rfl)
theorem dX3_isWord_19 : decode cX3_isWord 19 = .ok (.istore_n 2, 1) := dk_61 (dk_at dksX3_isWord_0 19 rfl rfl)
theorem dX3_isWord_20 : decode cX3_isWord 20 = .ok (.iload_n 2, 1) := dk_28 (dk_at dksX3_isWord_0 20 rfl rfl)
theorem dX3_isWord_21 : decode cX3_isWord 21 = .ok (.aload_n 1, 1) := dk_43 (dk_at dksX3_isWord_0 21 rfl rfl)
theorem dX3_isWord_22 : decode cX3_isWord 22 = .ok (.invokevirtual 55, 3) := dk_182 0 55 (dk_at dksX3_isWord_1 0 rfl rfl)
theorem dX3_isWord_25 : decode cX3_isWord 25 = .ok (.if_icmp .ge 30, 3) := dk_162 0 30 (dk_at dksX3_isWord_1 3 rfl rfl)
theorem dX3_isWord_28 : decode cX3_isWord 28 = .ok (.aload_n 0, 1) := dk_42 (dk_at dksX3_isWord_1 6 rfl rfl)
theorem dX3_isWord_29 : decode cX3_isWord 29 = .ok (.getfield 9, 3) := dk_180 0 9 (dk_at dksX3_isWord_1 7 rfl rfl)
theorem dX3_isWord_32 : decode cX3_isWord 32 = .ok (.aload_n 0, 1) := dk_42 (dk_at dksX3_isWord_1 10 rfl rfl)
theorem dX3_isWord_33 : decode cX3_isWord 33 = .ok (.getfield 22, 3) := dk_180 0 22 (dk_at dksX3_isWord_1 11 rfl rfl)
theorem dX3_isWord_36 : decode cX3_isWord 36 = .ok (.iload_n 2, 1) := dk_28 (dk_at dksX3_isWord_1 14 rfl rfl)
theorem dX3_isWord_37 : decode cX3_isWord 37 = .ok (.iadd, 1) := dk_96 (dk_at dksX3_isWord_1 15 rfl rfl)
theorem dX3_isWord_38 : decode cX3_isWord 38 = .ok (.baload, 1) := dk_51 (dk_at dksX3_isWord_1 16 rfl rfl)
theorem dX3_isWord_39 : decode cX3_isWord 39 = .ok (.aload_n 1, 1) := dk_43 (dk_at dksX3_isWord_1 17 rfl rfl)
theorem dX3_isWord_40 : decode cX3_isWord 40 = .ok (.iload_n 2, 1) := dk_28 (dk_at dksX3_isWord_1 18 rfl rfl)
theorem dX3_isWord_41 : decode cX3_isWord 41 = .ok (.invokevirtual 61, 3) := dk_182 0 61 (dk_at dksX3_isWord_1 19 rfl rfl)
theorem dX3_isWord_44 : decode cX3_isWord 44 = .ok (.if_icmp .eq 5, 3) := dk_159 0 5 (dk_at dksX3_isWord_2 0 rfl rfl)
theorem dX3_isWord_47 : decode cX3_isWord 47 = .ok (.iconst 0, 1) := dk_3 (dk_at dksX3_isWord_2 3 rfl rfl)
theorem dX3_isWord_48 : decode cX3_isWord 48 = .ok (.ireturn, 1) := dk_172 (dk_at dksX3_isWord_2 4 rfl rfl)
theorem dX3_isWord_49 : decode cX3_isWord 49 = .ok (.iinc 2 1, 3) := dk_132 2 1 (dk_at dksX3_isWord_2 5 rfl rfl)
theorem dX3_isWord_52 : decode cX3_isWord 52 = .ok (.goto (-32), 3) := dk_167 255 224 (dk_at dksX3_isWord_2 8 rfl rfl)
theorem dX3_isWord_55 : decode cX3_isWord 55 = .ok (.iconst 1, 1) := dk_4 (dk_at dksX3_isWord_2 11 rfl rfl)
theorem dX3_isWord_56 : decode cX3_isWord 56 = .ok (.ireturn, 1) := dk_172 (dk_at dksX3_isWord_2 12 rfl rfl)
def dkwX3_isDigit_0 : List UInt8 := [26, 16, 48, 161, 0, 13, 26, 16, 57, 163, 0, 7, 4, 167, 0, 4, 3, 172]
abbrev dktX3_isDigit_0 : List UInt8 := dkwX3_isDigit_0 ++ []
theorem dksX3_isDigit_0 : cX3_isDigit.data.toList.drop 0 = dktX3_isDigit_0 := by decide +kernel
theorem dX3_isDigit_0 : decode cX3_isDigit 0 = .ok (.iload_n 0, 1) := dk_26 (dk_at dksX3_isDigit_0 0 rfl rfl)
theorem dX3_isDigit_1 : decode cX3_isDigit 1 = .ok (.bipush 48, 2) := dk_16 48 (dk_at dksX3_isDigit_0 1 rfl rfl)
theorem dX3_isDigit_3 : decode cX3_isDigit 3 = .ok (.if_icmp .lt 13, 3) := dk_161 0 13 (dk_at dksX3_isDigit_0 3 rfl rfl)
theorem dX3_isDigit_6 : decode cX3_isDigit 6 = .ok (.iload_n 0, 1) := dk_26 (dk_at dksX3_isDigit_0 6 rfl rfl)
theorem dX3_isDigit_7 : decode cX3_isDigit 7 = .ok (.bipush 57, 2) := dk_16 57 (dk_at dksX3_isDigit_0 7 rfl rfl)
theorem dX3_isDigit_9 : decode cX3_isDigit 9 = .ok (.if_icmp .gt 7, 3) := dk_163 0 7 (dk_at dksX3_isDigit_0 9 rfl rfl)
theorem dX3_isDigit_12 : decode cX3_isDigit 12 = .ok (.iconst 1, 1) := dk_4 (dk_at dksX3_isDigit_0 12 rfl rfl)
theorem dX3_isDigit_13 : decode cX3_isDigit 13 = .ok (.goto 4, 3) := dk_167 0 4 (dk_at dksX3_isDigit_0 13 rfl rfl)
theorem dX3_isDigit_16 : decode cX3_isDigit 16 = .ok (.iconst 0, 1) := dk_3 (dk_at dksX3_isDigit_0 16 rfl rfl)
theorem dX3_isDigit_17 : decode cX3_isDigit 17 = .ok (.ireturn, 1) := dk_172 (dk_at dksX3_isDigit_0 17 rfl rfl)
def dkwX3_wrong_0 : List UInt8 := [187, 0, 65, 89, 27, 42, 180, 0, 22, 183, 0, 67, 176]
abbrev dktX3_wrong_0 : List UInt8 := dkwX3_wrong_0 ++ []
theorem dksX3_wrong_0 : cX3_wrong.data.toList.drop 0 = dktX3_wrong_0 := by decide +kernel
theorem dX3_wrong_0 : decode cX3_wrong 0 = .ok (.new 65, 3) := dk_187 0 65 (dk_at dksX3_wrong_0 0 rfl rfl)
theorem dX3_wrong_3 : decode cX3_wrong 3 = .ok (.dup, 1) := dk_89 (dk_at dksX3_wrong_0 3 rfl rfl)
theorem dX3_wrong_4 : decode cX3_wrong 4 = .ok (.iload_n 1, 1) := dk_27 (dk_at dksX3_wrong_0 4 rfl rfl)
theorem dX3_wrong_5 : decode cX3_wrong 5 = .ok (.aload_n 0, 1) := dk_42 (dk_at dksX3_wrong_0 5 rfl rfl)
theorem dX3_wrong_6 : decode cX3_wrong 6 = .ok (.getfield 22, 3) := dk_180 0 22 (dk_at dksX3_wrong_0 6 rfl rfl)
theorem dX3_wrong_9 : decode cX3_wrong 9 = .ok (.invokespecial 67, 3) := dk_183 0 67 (dk_at dksX3_wrong_0 9 rfl rfl)
theorem dX3_wrong_12 : decode cX3_wrong 12 = .ok (.areturn, 1) := dk_176 (dk_at dksX3_wrong_0 12 rfl rfl)
def dkwX3_clause_4 : List UInt8 := [180, 0, 97, 182, 0, 122, 182, 0, 126, 87, 177]
abbrev dktX3_clause_4 : List UInt8 := dkwX3_clause_4 ++ []
def dkwX3_clause_3 : List UInt8 := [182, 0, 112, 181, 0, 94, 167, 0, 27, 42, 43, 182, 0, 116, 167, 0, 19, 43, 180, 0, 118, 42, 43]
abbrev dktX3_clause_3 : List UInt8 := dkwX3_clause_3 ++ dktX3_clause_4
def dkwX3_clause_2 : List UInt8 := [43, 42, 182, 0, 108, 181, 0, 86, 167, 0, 49, 43, 42, 182, 0, 112, 181, 0, 90, 167, 0, 38, 43, 42]
abbrev dktX3_clause_2 : List UInt8 := dkwX3_clause_2 ++ dktX3_clause_3
def dkwX3_clause_1 : List UInt8 := [170, 0, 0, 0, 0, 0, 0, 73, 0, 0, 0, 200, 0, 0, 0, 203, 0, 0, 0, 32, 0, 0, 0, 43, 0, 0, 0, 54, 0, 0, 0, 65]
abbrev dktX3_clause_1 : List UInt8 := dkwX3_clause_1 ++ dktX3_clause_2
def dkwX3_clause_0 : List UInt8 := [42, 180, 0, 83]
abbrev dktX3_clause_0 : List UInt8 := dkwX3_clause_0 ++ dktX3_clause_1
theorem dksX3_clause_0 : cX3_clause.data.toList.drop 0 = dktX3_clause_0 := by decide +kernel
theorem dksX3_clause_1 : cX3_clause.data.toList.drop 4 = dktX3_clause_1 := dk_seg dksX3_clause_0 4 rfl rfl
theorem dksX3_clause_2 : cX3_clause.data.toList.drop 36 = dktX3_clause_2 := dk_seg dksX3_clause_1 32 rfl rfl
theorem dksX3_clause_3 : cX3_clause.data.toList.drop 60 = dktX3_clause_3 := dk_seg dksX3_clause_2 24 rfl rfl
theorem dksX3_clause_4 : cX3_clause.data.toList.drop 83 = dktX3_clause_4 := dk_seg dksX3_clause_3 23 rfl rfl
theorem dX3_clause_0 : decode cX3_clause 0 = .ok (.aload_n 0, 1) := dk_42 (dk_at dksX3_clause_0 0 rfl rfl)
theorem dX3_clause_1 : decode cX3_clause 1 = .ok (.getfield 83, 3) := dk_180 0 83 (dk_at dksX3_clause_0 1 rfl rfl)
theorem dX3_clause_4 : decode cX3_clause 4 = .ok (.tableswitch 73 200 203 #[32, 43, 54, 65], 32) := by decide +kernel
theorem dX3_clause_36 : decode cX3_clause 36 = .ok (.aload_n 1, 1) := dk_43 (dk_at dksX3_clause_2 0 rfl rfl)
theorem dX3_clause_37 : decode cX3_clause 37 = .ok (.aload_n 0, 1) := dk_42 (dk_at dksX3_clause_2 1 rfl rfl)
theorem dX3_clause_38 : decode cX3_clause 38 = .ok (.invokevirtual 108, 3) := dk_182 0 108 (dk_at dksX3_clause_2 2 rfl rfl)
theorem dX3_clause_41 : decode cX3_clause 41 = .ok (.putfield 86, 3) := dk_181 0 86 (dk_at dksX3_clause_2 5 rfl rfl)
theorem dX3_clause_44 : decode cX3_clause 44 = .ok (.goto 49, 3) := dk_167 0 49 (dk_at dksX3_clause_2 8 rfl rfl)
theorem dX3_clause_47 : decode cX3_clause 47 = .ok (.aload_n 1, 1) := dk_43 (dk_at dksX3_clause_2 11 rfl rfl)
theorem dX3_clause_48 : decode cX3_clause 48 = .ok (.aload_n 0, 1) := dk_42 (dk_at dksX3_clause_2 12 rfl rfl)
theorem dX3_clause_49 : decode cX3_clause 49 = .ok (.invokevirtual 112, 3) := dk_182 0 112 (dk_at dksX3_clause_2 13 rfl rfl)
theorem dX3_clause_52 : decode cX3_clause 52 = .ok (.putfield 90, 3) := dk_181 0 90 (dk_at dksX3_clause_2 16 rfl rfl)
theorem dX3_clause_55 : decode cX3_clause 55 = .ok (.goto 38, 3) := dk_167 0 38 (dk_at dksX3_clause_2 19 rfl rfl)
theorem dX3_clause_58 : decode cX3_clause 58 = .ok (.aload_n 1, 1) := dk_43 (dk_at dksX3_clause_2 22 rfl rfl)
theorem dX3_clause_59 : decode cX3_clause 59 = .ok (.aload_n 0, 1) := dk_42 (dk_at dksX3_clause_2 23 rfl rfl)
theorem dX3_clause_60 : decode cX3_clause 60 = .ok (.invokevirtual 112, 3) := dk_182 0 112 (dk_at dksX3_clause_3 0 rfl rfl)
theorem dX3_clause_63 : decode cX3_clause 63 = .ok (.putfield 94, 3) := dk_181 0 94 (dk_at dksX3_clause_3 3 rfl rfl)
theorem dX3_clause_66 : decode cX3_clause 66 = .ok (.goto 27, 3) := dk_167 0 27 (dk_at dksX3_clause_3 6 rfl rfl)
theorem dX3_clause_69 : decode cX3_clause 69 = .ok (.aload_n 0, 1) := dk_42 (dk_at dksX3_clause_3 9 rfl rfl)
theorem dX3_clause_70 : decode cX3_clause 70 = .ok (.aload_n 1, 1) := dk_43 (dk_at dksX3_clause_3 10 rfl rfl)
theorem dX3_clause_71 : decode cX3_clause 71 = .ok (.invokevirtual 116, 3) := dk_182 0 116 (dk_at dksX3_clause_3 11 rfl rfl)
theorem dX3_clause_74 : decode cX3_clause 74 = .ok (.goto 19, 3) := dk_167 0 19 (dk_at dksX3_clause_3 14 rfl rfl)
theorem dX3_clause_77 : decode cX3_clause 77 = .ok (.aload_n 1, 1) := dk_43 (dk_at dksX3_clause_3 17 rfl rfl)
theorem dX3_clause_78 : decode cX3_clause 78 = .ok (.getfield 118, 3) := dk_180 0 118 (dk_at dksX3_clause_3 18 rfl rfl)
theorem dX3_clause_81 : decode cX3_clause 81 = .ok (.aload_n 0, 1) := dk_42 (dk_at dksX3_clause_3 21 rfl rfl)
theorem dX3_clause_82 : decode cX3_clause 82 = .ok (.aload_n 1, 1) := dk_43 (dk_at dksX3_clause_3 22 rfl rfl)
theorem dX3_clause_83 : decode cX3_clause 83 = .ok (.getfield 97, 3) := dk_180 0 97 (dk_at dksX3_clause_4 0 rfl rfl)
theorem dX3_clause_86 : decode cX3_clause 86 = .ok (.invokevirtual 122, 3) := dk_182 0 122 (dk_at dksX3_clause_4 3 rfl rfl)
theorem dX3_clause_89 : decode cX3_clause 89 = .ok (.invokevirtual 126, 3) := dk_182 0 126 (dk_at dksX3_clause_4 6 rfl rfl)
theorem dX3_clause_92 : decode cX3_clause 92 = .ok (.pop, 1) := dk_87 (dk_at dksX3_clause_4 9 rfl rfl)
theorem dX3_clause_93 : decode cX3_clause 93 = .ok (.return_, 1) := dk_177 (dk_at dksX3_clause_4 10 rfl rfl)
def dkwX3_sum_2 : List UInt8 := [182, 0, 184, 167, 255, 220, 43, 182, 0, 187, 176]
abbrev dktX3_sum_2 : List UInt8 := dkwX3_sum_2 ++ []
def dkwX3_sum_1 : List UInt8 := [180, 0, 25, 16, 45, 160, 0, 24, 42, 180, 0, 25, 61, 42, 182, 0, 74, 43, 28, 42, 182, 0, 178]
abbrev dktX3_sum_1 : List UInt8 := dkwX3_sum_1 ++ dktX3_sum_2
def dkwX3_sum_0 : List UInt8 := [187, 0, 176, 89, 42, 182, 0, 178, 183, 0, 181, 76, 42, 180, 0, 25, 16, 43, 159, 0, 12, 42]
abbrev dktX3_sum_0 : List UInt8 := dkwX3_sum_0 ++ dktX3_sum_1
theorem dksX3_sum_0 : cX3_sum.data.toList.drop 0 = dktX3_sum_0 := by decide +kernel
theorem dksX3_sum_1 : cX3_sum.data.toList.drop 22 = dktX3_sum_1 := dk_seg dksX3_sum_0 22 rfl rfl
theorem dksX3_sum_2 : cX3_sum.data.toList.drop 45 = dktX3_sum_2 := dk_seg dksX3_sum_1 23 rfl rfl
theorem dX3_sum_0 : decode cX3_sum 0 = .ok (.new 176, 3) := dk_187 0 176 (dk_at dksX3_sum_0 0 rfl rfl)
theorem dX3_sum_3 : decode cX3_sum 3 = .ok (.dup, 1) := dk_89 (dk_at dksX3_sum_0 3 rfl rfl)
theorem dX3_sum_4 : decode cX3_sum 4 = .ok (.aload_n 0, 1) := dk_42 (dk_at dksX3_sum_0 4 rfl rfl)
theorem dX3_sum_5 : decode cX3_sum 5 = .ok (.invokevirtual 178, 3) := dk_182 0 178 (dk_at dksX3_sum_0 5 rfl rfl)
theorem dX3_sum_8 : decode cX3_sum 8 = .ok (.invokespecial 181, 3) := dk_183 0 181 (dk_at dksX3_sum_0 8 rfl rfl)
theorem dX3_sum_11 : decode cX3_sum 11 = .ok (.astore_n 1, 1) := dk_76 (dk_at dksX3_sum_0 11 rfl rfl)
theorem dX3_sum_12 : decode cX3_sum 12 = .ok (.aload_n 0, 1) := dk_42 (dk_at dksX3_sum_0 12 rfl rfl)
theorem dX3_sum_13 : decode cX3_sum 13 = .ok (.getfield 25, 3) := dk_180 0 25 (dk_at dksX3_sum_0 13 rfl rfl)
theorem dX3_sum_16 : decode cX3_sum 16 = .ok (.bipush 43, 2) := dk_16 43 (dk_at dksX3_sum_0 16 rfl rfl)
theorem dX3_sum_18 : decode cX3_sum 18 = .ok (.if_icmp .eq 12, 3) := dk_159 0 12 (dk_at dksX3_sum_0 18 rfl rfl)
theorem dX3_sum_21 : decode cX3_sum 21 = .ok (.aload_n 0, 1) := dk_42 (dk_at dksX3_sum_0 21 rfl rfl)
theorem dX3_sum_22 : decode cX3_sum 22 = .ok (.getfield 25, 3) := dk_180 0 25 (dk_at dksX3_sum_1 0 rfl rfl)
theorem dX3_sum_25 : decode cX3_sum 25 = .ok (.bipush 45, 2) := dk_16 45 (dk_at dksX3_sum_1 3 rfl rfl)
theorem dX3_sum_27 : decode cX3_sum 27 = .ok (.if_icmp .ne 24, 3) := dk_160 0 24 (dk_at dksX3_sum_1 5 rfl rfl)
theorem dX3_sum_30 : decode cX3_sum 30 = .ok (.aload_n 0, 1) := dk_42 (dk_at dksX3_sum_1 8 rfl rfl)
theorem dX3_sum_31 : decode cX3_sum 31 = .ok (.getfield 25, 3) := dk_180 0 25 (dk_at dksX3_sum_1 9 rfl rfl)
theorem dX3_sum_34 : decode cX3_sum 34 = .ok (.istore_n 2, 1) := dk_61 (dk_at dksX3_sum_1 12 rfl rfl)
theorem dX3_sum_35 : decode cX3_sum 35 = .ok (.aload_n 0, 1) := dk_42 (dk_at dksX3_sum_1 13 rfl rfl)
theorem dX3_sum_36 : decode cX3_sum 36 = .ok (.invokevirtual 74, 3) := dk_182 0 74 (dk_at dksX3_sum_1 14 rfl rfl)
theorem dX3_sum_39 : decode cX3_sum 39 = .ok (.aload_n 1, 1) := dk_43 (dk_at dksX3_sum_1 17 rfl rfl)
theorem dX3_sum_40 : decode cX3_sum 40 = .ok (.iload_n 2, 1) := dk_28 (dk_at dksX3_sum_1 18 rfl rfl)
theorem dX3_sum_41 : decode cX3_sum 41 = .ok (.aload_n 0, 1) := dk_42 (dk_at dksX3_sum_1 19 rfl rfl)
theorem dX3_sum_42 : decode cX3_sum 42 = .ok (.invokevirtual 178, 3) := dk_182 0 178 (dk_at dksX3_sum_1 20 rfl rfl)
theorem dX3_sum_45 : decode cX3_sum 45 = .ok (.invokevirtual 184, 3) := dk_182 0 184 (dk_at dksX3_sum_2 0 rfl rfl)
theorem dX3_sum_48 : decode cX3_sum 48 = .ok (.goto (-36), 3) := dk_167 255 220 (dk_at dksX3_sum_2 3 rfl rfl)
theorem dX3_sum_51 : decode cX3_sum 51 = .ok (.aload_n 1, 1) := dk_43 (dk_at dksX3_sum_2 6 rfl rfl)
theorem dX3_sum_52 : decode cX3_sum 52 = .ok (.invokevirtual 187, 3) := dk_182 0 187 (dk_at dksX3_sum_2 7 rfl rfl)
theorem dX3_sum_55 : decode cX3_sum 55 = .ok (.areturn, 1) := dk_176 (dk_at dksX3_sum_2 10 rfl rfl)
def dkwX3_product_2 : List UInt8 := [182, 0, 184, 167, 255, 220, 43, 182, 0, 187, 176]
abbrev dktX3_product_2 : List UInt8 := dkwX3_product_2 ++ []
def dkwX3_product_1 : List UInt8 := [180, 0, 25, 16, 47, 160, 0, 24, 42, 180, 0, 25, 61, 42, 182, 0, 74, 43, 28, 42, 182, 0, 190]
abbrev dktX3_product_1 : List UInt8 := dkwX3_product_1 ++ dktX3_product_2
def dkwX3_product_0 : List UInt8 := [187, 0, 176, 89, 42, 182, 0, 190, 183, 0, 181, 76, 42, 180, 0, 25, 16, 42, 159, 0, 12, 42]
abbrev dktX3_product_0 : List UInt8 := dkwX3_product_0 ++ dktX3_product_1
theorem dksX3_product_0 : cX3_product.data.toList.drop 0 = dktX3_product_0 := by decide +kernel
theorem dksX3_product_1 : cX3_product.data.toList.drop 22 = dktX3_product_1 := dk_seg dksX3_product_0 22 rfl rfl
theorem dksX3_product_2 : cX3_product.data.toList.drop 45 = dktX3_product_2 := dk_seg dksX3_product_1 23 rfl rfl
theorem dX3_product_0 : decode cX3_product 0 = .ok (.new 176, 3) := dk_187 0 176 (dk_at dksX3_product_0 0 rfl rfl)
theorem dX3_product_3 : decode cX3_product 3 = .ok (.dup, 1) := dk_89 (dk_at dksX3_product_0 3 rfl rfl)
theorem dX3_product_4 : decode cX3_product 4 = .ok (.aload_n 0, 1) := dk_42 (dk_at dksX3_product_0 4 rfl rfl)
theorem dX3_product_5 : decode cX3_product 5 = .ok (.invokevirtual 190, 3) := dk_182 0 190 (dk_at dksX3_product_0 5 rfl rfl)
theorem dX3_product_8 : decode cX3_product 8 = .ok (.invokespecial 181, 3) := dk_183 0 181 (dk_at dksX3_product_0 8 rfl rfl)
theorem dX3_product_11 : decode cX3_product 11 = .ok (.astore_n 1, 1) := dk_76 (dk_at dksX3_product_0 11 rfl rfl)
theorem dX3_product_12 : decode cX3_product 12 = .ok (.aload_n 0, 1) := dk_42 (dk_at dksX3_product_0 12 rfl rfl)
theorem dX3_product_13 : decode cX3_product 13 = .ok (.getfield 25, 3) := dk_180 0 25 (dk_at dksX3_product_0 13 rfl rfl)
theorem dX3_product_16 : decode cX3_product 16 = .ok (.bipush 42, 2) := dk_16 42 (dk_at dksX3_product_0 16 rfl rfl)
theorem dX3_product_18 : decode cX3_product 18 = .ok (.if_icmp .eq 12, 3) := dk_159 0 12 (dk_at dksX3_product_0 18 rfl rfl)
theorem dX3_product_21 : decode cX3_product 21 = .ok (.aload_n 0, 1) := dk_42 (dk_at dksX3_product_0 21 rfl rfl)
theorem dX3_product_22 : decode cX3_product 22 = .ok (.getfield 25, 3) := dk_180 0 25 (dk_at dksX3_product_1 0 rfl rfl)
theorem dX3_product_25 : decode cX3_product 25 = .ok (.bipush 47, 2) := dk_16 47 (dk_at dksX3_product_1 3 rfl rfl)
theorem dX3_product_27 : decode cX3_product 27 = .ok (.if_icmp .ne 24, 3) := dk_160 0 24 (dk_at dksX3_product_1 5 rfl rfl)
theorem dX3_product_30 : decode cX3_product 30 = .ok (.aload_n 0, 1) := dk_42 (dk_at dksX3_product_1 8 rfl rfl)
theorem dX3_product_31 : decode cX3_product 31 = .ok (.getfield 25, 3) := dk_180 0 25 (dk_at dksX3_product_1 9 rfl rfl)
theorem dX3_product_34 : decode cX3_product 34 = .ok (.istore_n 2, 1) := dk_61 (dk_at dksX3_product_1 12 rfl rfl)
theorem dX3_product_35 : decode cX3_product 35 = .ok (.aload_n 0, 1) := dk_42 (dk_at dksX3_product_1 13 rfl rfl)
theorem dX3_product_36 : decode cX3_product 36 = .ok (.invokevirtual 74, 3) := dk_182 0 74 (dk_at dksX3_product_1 14 rfl rfl)
theorem dX3_product_39 : decode cX3_product 39 = .ok (.aload_n 1, 1) := dk_43 (dk_at dksX3_product_1 17 rfl rfl)
theorem dX3_product_40 : decode cX3_product 40 = .ok (.iload_n 2, 1) := dk_28 (dk_at dksX3_product_1 18 rfl rfl)
theorem dX3_product_41 : decode cX3_product 41 = .ok (.aload_n 0, 1) := dk_42 (dk_at dksX3_product_1 19 rfl rfl)
theorem dX3_product_42 : decode cX3_product 42 = .ok (.invokevirtual 190, 3) := dk_182 0 190 (dk_at dksX3_product_1 20 rfl rfl)
theorem dX3_product_45 : decode cX3_product 45 = .ok (.invokevirtual 184, 3) := dk_182 0 184 (dk_at dksX3_product_2 0 rfl rfl)
theorem dX3_product_48 : decode cX3_product 48 = .ok (.goto (-36), 3) := dk_167 255 220 (dk_at dksX3_product_2 3 rfl rfl)
theorem dX3_product_51 : decode cX3_product 51 = .ok (.aload_n 1, 1) := dk_43 (dk_at dksX3_product_2 6 rfl rfl)
theorem dX3_product_52 : decode cX3_product 52 = .ok (.invokevirtual 187, 3) := dk_182 0 187 (dk_at dksX3_product_2 7 rfl rfl)
theorem dX3_product_55 : decode cX3_product 55 = .ok (.areturn, 1) := dk_176 (dk_at dksX3_product_2 10 rfl rfl)
def dkwX3_one_7 : List UInt8 := [181, 0, 77, 43, 176]
abbrev dktX3_one_7 : List UInt8 := dkwX3_one_7 ++ []
def dkwX3_one_6 : List UInt8 := [182, 0, 190, 183, 0, 202, 76, 167, 0, 9, 42, 4, 182, 0, 70, 191, 42, 89, 180, 0, 77, 4, 100]
abbrev dktX3_one_6 : List UInt8 := dkwX3_one_6 ++ dktX3_one_7
def dkwX3_one_5 : List UInt8 := [182, 0, 104, 167, 0, 37, 42, 180, 0, 25, 16, 45, 160, 0, 22, 42, 182, 0, 163, 187, 0, 200, 89, 42]
abbrev dktX3_one_5 : List UInt8 := dkwX3_one_5 ++ dktX3_one_6
def dkwX3_one_4 : List UInt8 := [43, 176, 42, 180, 0, 25, 16, 40, 160, 0, 21, 42, 182, 0, 163, 42, 182, 0, 108, 76, 42, 16, 41]
abbrev dktX3_one_4 : List UInt8 := dkwX3_one_4 ++ dktX3_one_5
def dkwX3_one_3 : List UInt8 := [182, 0, 70, 191, 187, 0, 197, 89, 42, 180, 0, 25, 17, 0, 216, 100, 183, 0, 199, 76, 42, 182, 0, 74]
abbrev dktX3_one_3 : List UInt8 := dkwX3_one_3 ++ dktX3_one_4
def dkwX3_one_2 : List UInt8 := [42, 180, 0, 25, 17, 0, 220, 164, 0, 19, 42, 180, 0, 83, 17, 0, 202, 159, 0, 9, 42, 8]
abbrev dktX3_one_2 : List UInt8 := dkwX3_one_2 ++ dktX3_one_3
def dkwX3_one_1 : List UInt8 := [183, 0, 195, 176, 42, 180, 0, 25, 17, 0, 216, 161, 0, 61, 42, 180, 0, 25, 17, 0, 223, 163, 0, 51]
abbrev dktX3_one_1 : List UInt8 := dkwX3_one_1 ++ dktX3_one_2
def dkwX3_one_0 : List UInt8 := [42, 180, 0, 25, 17, 1, 44, 160, 0, 19, 187, 0, 193, 89, 42, 3, 17, 39, 15, 182, 0, 136]
abbrev dktX3_one_0 : List UInt8 := dkwX3_one_0 ++ dktX3_one_1
theorem dksX3_one_0 : cX3_one.data.toList.drop 0 = dktX3_one_0 := by decide +kernel
theorem dksX3_one_1 : cX3_one.data.toList.drop 22 = dktX3_one_1 := dk_seg dksX3_one_0 22 rfl rfl
theorem dksX3_one_2 : cX3_one.data.toList.drop 46 = dktX3_one_2 := dk_seg dksX3_one_1 24 rfl rfl
theorem dksX3_one_3 : cX3_one.data.toList.drop 68 = dktX3_one_3 := dk_seg dksX3_one_2 22 rfl rfl
theorem dksX3_one_4 : cX3_one.data.toList.drop 92 = dktX3_one_4 := dk_seg dksX3_one_3 24 rfl rfl
theorem dksX3_one_5 : cX3_one.data.toList.drop 115 = dktX3_one_5 := dk_seg dksX3_one_4 23 rfl rfl
theorem dksX3_one_6 : cX3_one.data.toList.drop 139 = dktX3_one_6 := dk_seg dksX3_one_5 24 rfl rfl
theorem dksX3_one_7 : cX3_one.data.toList.drop 162 = dktX3_one_7 := dk_seg dksX3_one_6 23 rfl rfl
theorem dX3_one_0 : decode cX3_one 0 = .ok (.aload_n 0, 1) := dk_42 (dk_at dksX3_one_0 0 rfl rfl)
theorem dX3_one_1 : decode cX3_one 1 = .ok (.getfield 25, 3) := dk_180 0 25 (dk_at dksX3_one_0 1 rfl rfl)
theorem dX3_one_4 : decode cX3_one 4 = .ok (.sipush 300, 3) := dk_17 1 44 (dk_at dksX3_one_0 4 rfl rfl)
theorem dX3_one_7 : decode cX3_one 7 = .ok (.if_icmp .ne 19, 3) := dk_160 0 19 (dk_at dksX3_one_0 7 rfl rfl)
theorem dX3_one_10 : decode cX3_one 10 = .ok (.new 193, 3) := dk_187 0 193 (dk_at dksX3_one_0 10 rfl rfl)
theorem dX3_one_13 : decode cX3_one 13 = .ok (.dup, 1) := dk_89 (dk_at dksX3_one_0 13 rfl rfl)
theorem dX3_one_14 : decode cX3_one 14 = .ok (.aload_n 0, 1) := dk_42 (dk_at dksX3_one_0 14 rfl rfl)
theorem dX3_one_15 : decode cX3_one 15 = .ok (.iconst 0, 1) := dk_3 (dk_at dksX3_one_0 15 rfl rfl)
theorem dX3_one_16 : decode cX3_one 16 = .ok (.sipush 9999, 3) := dk_17 39 15 (dk_at dksX3_one_0 16 rfl rfl)
theorem dX3_one_19 : decode cX3_one 19 = .ok (.invokevirtual 136, 3) := dk_182 0 136 (dk_at dksX3_one_0 19 rfl rfl)
theorem dX3_one_22 : decode cX3_one 22 = .ok (.invokespecial 195, 3) := dk_183 0 195 (dk_at dksX3_one_1 0 rfl rfl)
theorem dX3_one_25 : decode cX3_one 25 = .ok (.areturn, 1) := dk_176 (dk_at dksX3_one_1 3 rfl rfl)
theorem dX3_one_26 : decode cX3_one 26 = .ok (.aload_n 0, 1) := dk_42 (dk_at dksX3_one_1 4 rfl rfl)
theorem dX3_one_27 : decode cX3_one 27 = .ok (.getfield 25, 3) := dk_180 0 25 (dk_at dksX3_one_1 5 rfl rfl)
theorem dX3_one_30 : decode cX3_one 30 = .ok (.sipush 216, 3) := dk_17 0 216 (dk_at dksX3_one_1 8 rfl rfl)
theorem dX3_one_33 : decode cX3_one 33 = .ok (.if_icmp .lt 61, 3) := dk_161 0 61 (dk_at dksX3_one_1 11 rfl rfl)
theorem dX3_one_36 : decode cX3_one 36 = .ok (.aload_n 0, 1) := dk_42 (dk_at dksX3_one_1 14 rfl rfl)
theorem dX3_one_37 : decode cX3_one 37 = .ok (.getfield 25, 3) := dk_180 0 25 (dk_at dksX3_one_1 15 rfl rfl)
theorem dX3_one_40 : decode cX3_one 40 = .ok (.sipush 223, 3) := dk_17 0 223 (dk_at dksX3_one_1 18 rfl rfl)
theorem dX3_one_43 : decode cX3_one 43 = .ok (.if_icmp .gt 51, 3) := dk_163 0 51 (dk_at dksX3_one_1 21 rfl rfl)
theorem dX3_one_46 : decode cX3_one 46 = .ok (.aload_n 0, 1) := dk_42 (dk_at dksX3_one_2 0 rfl rfl)
theorem dX3_one_47 : decode cX3_one 47 = .ok (.getfield 25, 3) := dk_180 0 25 (dk_at dksX3_one_2 1 rfl rfl)
theorem dX3_one_50 : decode cX3_one 50 = .ok (.sipush 220, 3) := dk_17 0 220 (dk_at dksX3_one_2 4 rfl rfl)
theorem dX3_one_53 : decode cX3_one 53 = .ok (.if_icmp .le 19, 3) := dk_164 0 19 (dk_at dksX3_one_2 7 rfl rfl)
theorem dX3_one_56 : decode cX3_one 56 = .ok (.aload_n 0, 1) := dk_42 (dk_at dksX3_one_2 10 rfl rfl)
theorem dX3_one_57 : decode cX3_one 57 = .ok (.getfield 83, 3) := dk_180 0 83 (dk_at dksX3_one_2 11 rfl rfl)
theorem dX3_one_60 : decode cX3_one 60 = .ok (.sipush 202, 3) := dk_17 0 202 (dk_at dksX3_one_2 14 rfl rfl)
theorem dX3_one_63 : decode cX3_one 63 = .ok (.if_icmp .eq 9, 3) := dk_159 0 9 (dk_at dksX3_one_2 17 rfl rfl)
theorem dX3_one_66 : decode cX3_one 66 = .ok (.aload_n 0, 1) := dk_42 (dk_at dksX3_one_2 20 rfl rfl)
theorem dX3_one_67 : decode cX3_one 67 = .ok (.iconst 5, 1) := dk_8 (dk_at dksX3_one_2 21 rfl rfl)
theorem dX3_one_68 : decode cX3_one 68 = .ok (.invokevirtual 70, 3) := dk_182 0 70 (dk_at dksX3_one_3 0 rfl rfl)
theorem dX3_one_71 : decode cX3_one 71 = .ok (.athrow, 1) := dk_191 (dk_at dksX3_one_3 3 rfl rfl)
theorem dX3_one_72 : decode cX3_one 72 = .ok (.new 197, 3) := dk_187 0 197 (dk_at dksX3_one_3 4 rfl rfl)
theorem dX3_one_75 : decode cX3_one 75 = .ok (.dup, 1) := dk_89 (dk_at dksX3_one_3 7 rfl rfl)
theorem dX3_one_76 : decode cX3_one 76 = .ok (.aload_n 0, 1) := dk_42 (dk_at dksX3_one_3 8 rfl rfl)
theorem dX3_one_77 : decode cX3_one 77 = .ok (.getfield 25, 3) := dk_180 0 25 (dk_at dksX3_one_3 9 rfl rfl)
theorem dX3_one_80 : decode cX3_one 80 = .ok (.sipush 216, 3) := dk_17 0 216 (dk_at dksX3_one_3 12 rfl rfl)
theorem dX3_one_83 : decode cX3_one 83 = .ok (.isub, 1) := dk_100 (dk_at dksX3_one_3 15 rfl rfl)
theorem dX3_one_84 : decode cX3_one 84 = .ok (.invokespecial 199, 3) := dk_183 0 199 (dk_at dksX3_one_3 16 rfl rfl)
theorem dX3_one_87 : decode cX3_one 87 = .ok (.astore_n 1, 1) := dk_76 (dk_at dksX3_one_3 19 rfl rfl)
theorem dX3_one_88 : decode cX3_one 88 = .ok (.aload_n 0, 1) := dk_42 (dk_at dksX3_one_3 20 rfl rfl)
theorem dX3_one_89 : decode cX3_one 89 = .ok (.invokevirtual 74, 3) := dk_182 0 74 (dk_at dksX3_one_3 21 rfl rfl)
theorem dX3_one_92 : decode cX3_one 92 = .ok (.aload_n 1, 1) := dk_43 (dk_at dksX3_one_4 0 rfl rfl)
theorem dX3_one_93 : decode cX3_one 93 = .ok (.areturn, 1) := dk_176 (dk_at dksX3_one_4 1 rfl rfl)
theorem dX3_one_94 : decode cX3_one 94 = .ok (.aload_n 0, 1) := dk_42 (dk_at dksX3_one_4 2 rfl rfl)
theorem dX3_one_95 : decode cX3_one 95 = .ok (.getfield 25, 3) := dk_180 0 25 (dk_at dksX3_one_4 3 rfl rfl)
theorem dX3_one_98 : decode cX3_one 98 = .ok (.bipush 40, 2) := dk_16 40 (dk_at dksX3_one_4 6 rfl rfl)
theorem dX3_one_100 : decode cX3_one 100 = .ok (.if_icmp .ne 21, 3) := dk_160 0 21 (dk_at dksX3_one_4 8 rfl rfl)
theorem dX3_one_103 : decode cX3_one 103 = .ok (.aload_n 0, 1) := dk_42 (dk_at dksX3_one_4 11 rfl rfl)
theorem dX3_one_104 : decode cX3_one 104 = .ok (.invokevirtual 163, 3) := dk_182 0 163 (dk_at dksX3_one_4 12 rfl rfl)
theorem dX3_one_107 : decode cX3_one 107 = .ok (.aload_n 0, 1) := dk_42 (dk_at dksX3_one_4 15 rfl rfl)
theorem dX3_one_108 : decode cX3_one 108 = .ok (.invokevirtual 108, 3) := dk_182 0 108 (dk_at dksX3_one_4 16 rfl rfl)
theorem dX3_one_111 : decode cX3_one 111 = .ok (.astore_n 1, 1) := dk_76 (dk_at dksX3_one_4 19 rfl rfl)
theorem dX3_one_112 : decode cX3_one 112 = .ok (.aload_n 0, 1) := dk_42 (dk_at dksX3_one_4 20 rfl rfl)
theorem dX3_one_113 : decode cX3_one 113 = .ok (.bipush 41, 2) := dk_16 41 (dk_at dksX3_one_4 21 rfl rfl)
theorem dX3_one_115 : decode cX3_one 115 = .ok (.invokevirtual 104, 3) := dk_182 0 104 (dk_at dksX3_one_5 0 rfl rfl)
theorem dX3_one_118 : decode cX3_one 118 = .ok (.goto 37, 3) := dk_167 0 37 (dk_at dksX3_one_5 3 rfl rfl)
theorem dX3_one_121 : decode cX3_one 121 = .ok (.aload_n 0, 1) := dk_42 (dk_at dksX3_one_5 6 rfl rfl)
theorem dX3_one_122 : decode cX3_one 122 = .ok (.getfield 25, 3) := dk_180 0 25 (dk_at dksX3_one_5 7 rfl rfl)
theorem dX3_one_125 : decode cX3_one 125 = .ok (.bipush 45, 2) := dk_16 45 (dk_at dksX3_one_5 10 rfl rfl)
theorem dX3_one_127 : decode cX3_one 127 = .ok (.if_icmp .ne 22, 3) := dk_160 0 22 (dk_at dksX3_one_5 12 rfl rfl)
theorem dX3_one_130 : decode cX3_one 130 = .ok (.aload_n 0, 1) := dk_42 (dk_at dksX3_one_5 15 rfl rfl)
theorem dX3_one_131 : decode cX3_one 131 = .ok (.invokevirtual 163, 3) := dk_182 0 163 (dk_at dksX3_one_5 16 rfl rfl)
theorem dX3_one_134 : decode cX3_one 134 = .ok (.new 200, 3) := dk_187 0 200 (dk_at dksX3_one_5 19 rfl rfl)
theorem dX3_one_137 : decode cX3_one 137 = .ok (.dup, 1) := dk_89 (dk_at dksX3_one_5 22 rfl rfl)
theorem dX3_one_138 : decode cX3_one 138 = .ok (.aload_n 0, 1) := dk_42 (dk_at dksX3_one_5 23 rfl rfl)
theorem dX3_one_139 : decode cX3_one 139 = .ok (.invokevirtual 190, 3) := dk_182 0 190 (dk_at dksX3_one_6 0 rfl rfl)
theorem dX3_one_142 : decode cX3_one 142 = .ok (.invokespecial 202, 3) := dk_183 0 202 (dk_at dksX3_one_6 3 rfl rfl)
theorem dX3_one_145 : decode cX3_one 145 = .ok (.astore_n 1, 1) := dk_76 (dk_at dksX3_one_6 6 rfl rfl)
theorem dX3_one_146 : decode cX3_one 146 = .ok (.goto 9, 3) := dk_167 0 9 (dk_at dksX3_one_6 7 rfl rfl)
theorem dX3_one_149 : decode cX3_one 149 = .ok (.aload_n 0, 1) := dk_42 (dk_at dksX3_one_6 10 rfl rfl)
theorem dX3_one_150 : decode cX3_one 150 = .ok (.iconst 1, 1) := dk_4 (dk_at dksX3_one_6 11 rfl rfl)
theorem dX3_one_151 : decode cX3_one 151 = .ok (.invokevirtual 70, 3) := dk_182 0 70 (dk_at dksX3_one_6 12 rfl rfl)
theorem dX3_one_154 : decode cX3_one 154 = .ok (.athrow, 1) := dk_191 (dk_at dksX3_one_6 15 rfl rfl)
theorem dX3_one_155 : decode cX3_one 155 = .ok (.aload_n 0, 1) := dk_42 (dk_at dksX3_one_6 16 rfl rfl)
theorem dX3_one_156 : decode cX3_one 156 = .ok (.dup, 1) := dk_89 (dk_at dksX3_one_6 17 rfl rfl)
theorem dX3_one_157 : decode cX3_one 157 = .ok (.getfield 77, 3) := dk_180 0 77 (dk_at dksX3_one_6 18 rfl rfl)
theorem dX3_one_160 : decode cX3_one 160 = .ok (.iconst 1, 1) := dk_4 (dk_at dksX3_one_6 21 rfl rfl)
theorem dX3_one_161 : decode cX3_one 161 = .ok (.isub, 1) := dk_100 (dk_at dksX3_one_6 22 rfl rfl)
theorem dX3_one_162 : decode cX3_one 162 = .ok (.putfield 77, 3) := dk_181 0 77 (dk_at dksX3_one_7 0 rfl rfl)
theorem dX3_one_165 : decode cX3_one 165 = .ok (.aload_n 1, 1) := dk_43 (dk_at dksX3_one_7 3 rfl rfl)
theorem dX3_one_166 : decode cX3_one 166 = .ok (.areturn, 1) := dk_176 (dk_at dksX3_one_7 4 rfl rfl)
def dkwX3_number_2 : List UInt8 := [172]
abbrev dktX3_number_2 : List UInt8 := dkwX3_number_2 ++ []
def dkwX3_number_1 : List UInt8 := [42, 180, 0, 43, 28, 164, 0, 9, 42, 5, 182, 0, 70, 191, 42, 180, 0, 43, 62, 42, 182, 0, 74, 29]
abbrev dktX3_number_1 : List UInt8 := dkwX3_number_1 ++ dktX3_number_2
def dkwX3_number_0 : List UInt8 := [42, 180, 0, 25, 17, 1, 44, 159, 0, 9, 42, 4, 182, 0, 70, 191, 42, 180, 0, 43, 27, 161, 0, 11]
abbrev dktX3_number_0 : List UInt8 := dkwX3_number_0 ++ dktX3_number_1
theorem dksX3_number_0 : cX3_number.data.toList.drop 0 = dktX3_number_0 := by decide +kernel
theorem dksX3_number_1 : cX3_number.data.toList.drop 24 = dktX3_number_1 := dk_seg dksX3_number_0 24 rfl rfl
theorem dksX3_number_2 : cX3_number.data.toList.drop 48 = dktX3_number_2 := dk_seg dksX3_number_1 24 rfl rfl
theorem dX3_number_0 : decode cX3_number 0 = .ok (.aload_n 0, 1) := dk_42 (dk_at dksX3_number_0 0 rfl rfl)
theorem dX3_number_1 : decode cX3_number 1 = .ok (.getfield 25, 3) := dk_180 0 25 (dk_at dksX3_number_0 1 rfl rfl)
theorem dX3_number_4 : decode cX3_number 4 = .ok (.sipush 300, 3) := dk_17 1 44 (dk_at dksX3_number_0 4 rfl rfl)
theorem dX3_number_7 : decode cX3_number 7 = .ok (.if_icmp .eq 9, 3) := dk_159 0 9 (dk_at dksX3_number_0 7 rfl rfl)
theorem dX3_number_10 : decode cX3_number 10 = .ok (.aload_n 0, 1) := dk_42 (dk_at dksX3_number_0 10 rfl rfl)
theorem dX3_number_11 : decode cX3_number 11 = .ok (.iconst 1, 1) := dk_4 (dk_at dksX3_number_0 11 rfl rfl)
theorem dX3_number_12 : decode cX3_number 12 = .ok (.invokevirtual 70, 3) := dk_182 0 70 (dk_at dksX3_number_0 12 rfl rfl)
theorem dX3_number_15 : decode cX3_number 15 = .ok (.athrow, 1) := dk_191 (dk_at dksX3_number_0 15 rfl rfl)
theorem dX3_number_16 : decode cX3_number 16 = .ok (.aload_n 0, 1) := dk_42 (dk_at dksX3_number_0 16 rfl rfl)
theorem dX3_number_17 : decode cX3_number 17 = .ok (.getfield 43, 3) := dk_180 0 43 (dk_at dksX3_number_0 17 rfl rfl)
theorem dX3_number_20 : decode cX3_number 20 = .ok (.iload_n 1, 1) := dk_27 (dk_at dksX3_number_0 20 rfl rfl)
theorem dX3_number_21 : decode cX3_number 21 = .ok (.if_icmp .lt 11, 3) := dk_161 0 11 (dk_at dksX3_number_0 21 rfl rfl)
theorem dX3_number_24 : decode cX3_number 24 = .ok (.aload_n 0, 1) := dk_42 (dk_at dksX3_number_1 0 rfl rfl)
theorem dX3_number_25 : decode cX3_number 25 = .ok (.getfield 43, 3) := dk_180 0 43 (dk_at dksX3_number_1 1 rfl rfl)
theorem dX3_number_28 : decode cX3_number 28 = .ok (.iload_n 2, 1) := dk_28 (dk_at dksX3_number_1 4 rfl rfl)
theorem dX3_number_29 : decode cX3_number 29 = .ok (.if_icmp .le 9, 3) := dk_164 0 9 (dk_at dksX3_number_1 5 rfl rfl)
theorem dX3_number_32 : decode cX3_number 32 = .ok (.aload_n 0, 1) := dk_42 (dk_at dksX3_number_1 8 rfl rfl)
theorem dX3_number_33 : decode cX3_number 33 = .ok (.iconst 2, 1) := dk_5 (dk_at dksX3_number_1 9 rfl rfl)
theorem dX3_number_34 : decode cX3_number 34 = .ok (.invokevirtual 70, 3) := dk_182 0 70 (dk_at dksX3_number_1 10 rfl rfl)
theorem dX3_number_37 : decode cX3_number 37 = .ok (.athrow, 1) := dk_191 (dk_at dksX3_number_1 13 rfl rfl)
theorem dX3_number_38 : decode cX3_number 38 = .ok (.aload_n 0, 1) := dk_42 (dk_at dksX3_number_1 14 rfl rfl)
theorem dX3_number_39 : decode cX3_number 39 = .ok (.getfield 43, 3) := dk_180 0 43 (dk_at dksX3_number_1 15 rfl rfl)
theorem dX3_number_42 : decode cX3_number 42 = .ok (.istore_n 3, 1) := dk_62 (dk_at dksX3_number_1 18 rfl rfl)
theorem dX3_number_43 : decode cX3_number 43 = .ok (.aload_n 0, 1) := dk_42 (dk_at dksX3_number_1 19 rfl rfl)
theorem dX3_number_44 : decode cX3_number 44 = .ok (.invokevirtual 74, 3) := dk_182 0 74 (dk_at dksX3_number_1 20 rfl rfl)
theorem dX3_number_47 : decode cX3_number 47 = .ok (.iload_n 3, 1) := dk_29 (dk_at dksX3_number_1 23 rfl rfl)
theorem dX3_number_48 : decode cX3_number 48 = .ok (.ireturn, 1) := dk_172 (dk_at dksX3_number_2 0 rfl rfl)
def dkwX3_opens_1 : List UInt8 := [181, 0, 77, 42, 182, 0, 74, 177]
abbrev dktX3_opens_1 : List UInt8 := dkwX3_opens_1 ++ []
def dkwX3_opens_0 : List UInt8 := [42, 180, 0, 77, 16, 8, 160, 0, 9, 42, 6, 182, 0, 70, 191, 42, 89, 180, 0, 77, 4, 96]
abbrev dktX3_opens_0 : List UInt8 := dkwX3_opens_0 ++ dktX3_opens_1
theorem dksX3_opens_0 : cX3_opens.data.toList.drop 0 = dktX3_opens_0 := by decide +kernel
theorem dksX3_opens_1 : cX3_opens.data.toList.drop 22 = dktX3_opens_1 := dk_seg dksX3_opens_0 22 rfl rfl
theorem dX3_opens_0 : decode cX3_opens 0 = .ok (.aload_n 0, 1) := dk_42 (dk_at dksX3_opens_0 0 rfl rfl)
theorem dX3_opens_1 : decode cX3_opens 1 = .ok (.getfield 77, 3) := dk_180 0 77 (dk_at dksX3_opens_0 1 rfl rfl)
theorem dX3_opens_4 : decode cX3_opens 4 = .ok (.bipush 8, 2) := dk_16 8 (dk_at dksX3_opens_0 4 rfl rfl)
theorem dX3_opens_6 : decode cX3_opens 6 = .ok (.if_icmp .ne 9, 3) := dk_160 0 9 (dk_at dksX3_opens_0 6 rfl rfl)
theorem dX3_opens_9 : decode cX3_opens 9 = .ok (.aload_n 0, 1) := dk_42 (dk_at dksX3_opens_0 9 rfl rfl)
theorem dX3_opens_10 : decode cX3_opens 10 = .ok (.iconst 3, 1) := dk_6 (dk_at dksX3_opens_0 10 rfl rfl)
theorem dX3_opens_11 : decode cX3_opens 11 = .ok (.invokevirtual 70, 3) := dk_182 0 70 (dk_at dksX3_opens_0 11 rfl rfl)
theorem dX3_opens_14 : decode cX3_opens 14 = .ok (.athrow, 1) := dk_191 (dk_at dksX3_opens_0 14 rfl rfl)
theorem dX3_opens_15 : decode cX3_opens 15 = .ok (.aload_n 0, 1) := dk_42 (dk_at dksX3_opens_0 15 rfl rfl)
theorem dX3_opens_16 : decode cX3_opens 16 = .ok (.dup, 1) := dk_89 (dk_at dksX3_opens_0 16 rfl rfl)
theorem dX3_opens_17 : decode cX3_opens 17 = .ok (.getfield 77, 3) := dk_180 0 77 (dk_at dksX3_opens_0 17 rfl rfl)
theorem dX3_opens_20 : decode cX3_opens 20 = .ok (.iconst 1, 1) := dk_4 (dk_at dksX3_opens_0 20 rfl rfl)
theorem dX3_opens_21 : decode cX3_opens 21 = .ok (.iadd, 1) := dk_96 (dk_at dksX3_opens_0 21 rfl rfl)
theorem dX3_opens_22 : decode cX3_opens 22 = .ok (.putfield 77, 3) := dk_181 0 77 (dk_at dksX3_opens_1 0 rfl rfl)
theorem dX3_opens_25 : decode cX3_opens 25 = .ok (.aload_n 0, 1) := dk_42 (dk_at dksX3_opens_1 3 rfl rfl)
theorem dX3_opens_26 : decode cX3_opens 26 = .ok (.invokevirtual 74, 3) := dk_182 0 74 (dk_at dksX3_opens_1 4 rfl rfl)
theorem dX3_opens_29 : decode cX3_opens 29 = .ok (.return_, 1) := dk_177 (dk_at dksX3_opens_1 7 rfl rfl)
def dkwX3_want_0 : List UInt8 := [42, 180, 0, 25, 27, 159, 0, 9, 42, 4, 182, 0, 70, 191, 42, 182, 0, 74, 177]
abbrev dktX3_want_0 : List UInt8 := dkwX3_want_0 ++ []
theorem dksX3_want_0 : cX3_want.data.toList.drop 0 = dktX3_want_0 := by decide +kernel
theorem dX3_want_0 : decode cX3_want 0 = .ok (.aload_n 0, 1) := dk_42 (dk_at dksX3_want_0 0 rfl rfl)
theorem dX3_want_1 : decode cX3_want 1 = .ok (.getfield 25, 3) := dk_180 0 25 (dk_at dksX3_want_0 1 rfl rfl)
theorem dX3_want_4 : decode cX3_want 4 = .ok (.iload_n 1, 1) := dk_27 (dk_at dksX3_want_0 4 rfl rfl)
theorem dX3_want_5 : decode cX3_want 5 = .ok (.if_icmp .eq 9, 3) := dk_159 0 9 (dk_at dksX3_want_0 5 rfl rfl)
theorem dX3_want_8 : decode cX3_want 8 = .ok (.aload_n 0, 1) := dk_42 (dk_at dksX3_want_0 8 rfl rfl)
theorem dX3_want_9 : decode cX3_want 9 = .ok (.iconst 1, 1) := dk_4 (dk_at dksX3_want_0 9 rfl rfl)
theorem dX3_want_10 : decode cX3_want 10 = .ok (.invokevirtual 70, 3) := dk_182 0 70 (dk_at dksX3_want_0 10 rfl rfl)
theorem dX3_want_13 : decode cX3_want 13 = .ok (.athrow, 1) := dk_191 (dk_at dksX3_want_0 13 rfl rfl)
theorem dX3_want_14 : decode cX3_want 14 = .ok (.aload_n 0, 1) := dk_42 (dk_at dksX3_want_0 14 rfl rfl)
theorem dX3_want_15 : decode cX3_want 15 = .ok (.invokevirtual 74, 3) := dk_182 0 74 (dk_at dksX3_want_0 15 rfl rfl)
theorem dX3_want_18 : decode cX3_want 18 = .ok (.return_, 1) := dk_177 (dk_at dksX3_want_0 18 rfl rfl)
def dkwX3_either_2 : List UInt8 := [160, 0, 14, 43, 3, 182, 0, 149, 192, 0, 153, 167, 0, 12, 187, 0, 155, 89, 3, 43, 183, 0, 157, 176]
abbrev dktX3_either_2 : List UInt8 := dkwX3_either_2 ++ []
def dkwX3_either_1 : List UInt8 := [160, 0, 19, 42, 182, 0, 74, 43, 42, 182, 0, 144, 182, 0, 126, 87, 167, 255, 233, 43, 182, 0, 147, 4]
abbrev dktX3_either_1 : List UInt8 := dkwX3_either_1 ++ dktX3_either_2
def dkwX3_either_0 : List UInt8 := [187, 0, 127, 89, 183, 0, 143, 76, 43, 42, 182, 0, 144, 182, 0, 126, 87, 42, 180, 0, 25, 17, 0, 213]
abbrev dktX3_either_0 : List UInt8 := dkwX3_either_0 ++ dktX3_either_1
theorem dksX3_either_0 : cX3_either.data.toList.drop 0 = dktX3_either_0 := by decide +kernel
theorem dksX3_either_1 : cX3_either.data.toList.drop 24 = dktX3_either_1 := dk_seg dksX3_either_0 24 rfl rfl
theorem dksX3_either_2 : cX3_either.data.toList.drop 48 = dktX3_either_2 := dk_seg dksX3_either_1 24 rfl rfl
theorem dX3_either_0 : decode cX3_either 0 = .ok (.new 127, 3) := dk_187 0 127 (dk_at dksX3_either_0 0 rfl rfl)
theorem dX3_either_3 : decode cX3_either 3 = .ok (.dup, 1) := dk_89 (dk_at dksX3_either_0 3 rfl rfl)
theorem dX3_either_4 : decode cX3_either 4 = .ok (.invokespecial 143, 3) := dk_183 0 143 (dk_at dksX3_either_0 4 rfl rfl)
theorem dX3_either_7 : decode cX3_either 7 = .ok (.astore_n 1, 1) := dk_76 (dk_at dksX3_either_0 7 rfl rfl)
theorem dX3_either_8 : decode cX3_either 8 = .ok (.aload_n 1, 1) := dk_43 (dk_at dksX3_either_0 8 rfl rfl)
theorem dX3_either_9 : decode cX3_either 9 = .ok (.aload_n 0, 1) := dk_42 (dk_at dksX3_either_0 9 rfl rfl)
theorem dX3_either_10 : decode cX3_either 10 = .ok (.invokevirtual 144, 3) := dk_182 0 144 (dk_at dksX3_either_0 10 rfl rfl)
theorem dX3_either_13 : decode cX3_either 13 = .ok (.invokevirtual 126, 3) := dk_182 0 126 (dk_at dksX3_either_0 13 rfl rfl)
theorem dX3_either_16 : decode cX3_either 16 = .ok (.pop, 1) := dk_87 (dk_at dksX3_either_0 16 rfl rfl)
theorem dX3_either_17 : decode cX3_either 17 = .ok (.aload_n 0, 1) := dk_42 (dk_at dksX3_either_0 17 rfl rfl)
theorem dX3_either_18 : decode cX3_either 18 = .ok (.getfield 25, 3) := dk_180 0 25 (dk_at dksX3_either_0 18 rfl rfl)
theorem dX3_either_21 : decode cX3_either 21 = .ok (.sipush 213, 3) := dk_17 0 213 (dk_at dksX3_either_0 21 rfl rfl)
theorem dX3_either_24 : decode cX3_either 24 = .ok (.if_icmp .ne 19, 3) := dk_160 0 19 (dk_at dksX3_either_1 0 rfl rfl)
theorem dX3_either_27 : decode cX3_either 27 = .ok (.aload_n 0, 1) := dk_42 (dk_at dksX3_either_1 3 rfl rfl)
theorem dX3_either_28 : decode cX3_either 28 = .ok (.invokevirtual 74, 3) := dk_182 0 74 (dk_at dksX3_either_1 4 rfl rfl)
theorem dX3_either_31 : decode cX3_either 31 = .ok (.aload_n 1, 1) := dk_43 (dk_at dksX3_either_1 7 rfl rfl)
theorem dX3_either_32 : decode cX3_either 32 = .ok (.aload_n 0, 1) := dk_42 (dk_at dksX3_either_1 8 rfl rfl)
theorem dX3_either_33 : decode cX3_either 33 = .ok (.invokevirtual 144, 3) := dk_182 0 144 (dk_at dksX3_either_1 9 rfl rfl)
theorem dX3_either_36 : decode cX3_either 36 = .ok (.invokevirtual 126, 3) := dk_182 0 126 (dk_at dksX3_either_1 12 rfl rfl)
theorem dX3_either_39 : decode cX3_either 39 = .ok (.pop, 1) := dk_87 (dk_at dksX3_either_1 15 rfl rfl)
theorem dX3_either_40 : decode cX3_either 40 = .ok (.goto (-23), 3) := dk_167 255 233 (dk_at dksX3_either_1 16 rfl rfl)
theorem dX3_either_43 : decode cX3_either 43 = .ok (.aload_n 1, 1) := dk_43 (dk_at dksX3_either_1 19 rfl rfl)
theorem dX3_either_44 : decode cX3_either 44 = .ok (.invokevirtual 147, 3) := dk_182 0 147 (dk_at dksX3_either_1 20 rfl rfl)
theorem dX3_either_47 : decode cX3_either 47 = .ok (.iconst 1, 1) := dk_4 (dk_at dksX3_either_1 23 rfl rfl)
theorem dX3_either_48 : decode cX3_either 48 = .ok (.if_icmp .ne 14, 3) := dk_160 0 14 (dk_at dksX3_either_2 0 rfl rfl)
theorem dX3_either_51 : decode cX3_either 51 = .ok (.aload_n 1, 1) := dk_43 (dk_at dksX3_either_2 3 rfl rfl)
theorem dX3_either_52 : decode cX3_either 52 = .ok (.iconst 0, 1) := dk_3 (dk_at dksX3_either_2 4 rfl rfl)
theorem dX3_either_53 : decode cX3_either 53 = .ok (.invokevirtual 149, 3) := dk_182 0 149 (dk_at dksX3_either_2 5 rfl rfl)
theorem dX3_either_56 : decode cX3_either 56 = .ok (.checkcast 153, 3) := dk_192 0 153 (dk_at dksX3_either_2 8 rfl rfl)
theorem dX3_either_59 : decode cX3_either 59 = .ok (.goto 12, 3) := dk_167 0 12 (dk_at dksX3_either_2 11 rfl rfl)
theorem dX3_either_62 : decode cX3_either 62 = .ok (.new 155, 3) := dk_187 0 155 (dk_at dksX3_either_2 14 rfl rfl)
theorem dX3_either_65 : decode cX3_either 65 = .ok (.dup, 1) := dk_89 (dk_at dksX3_either_2 17 rfl rfl)
theorem dX3_either_66 : decode cX3_either 66 = .ok (.iconst 0, 1) := dk_3 (dk_at dksX3_either_2 18 rfl rfl)
theorem dX3_either_67 : decode cX3_either 67 = .ok (.aload_n 1, 1) := dk_43 (dk_at dksX3_either_2 19 rfl rfl)
theorem dX3_either_68 : decode cX3_either 68 = .ok (.invokespecial 157, 3) := dk_183 0 157 (dk_at dksX3_either_2 20 rfl rfl)
theorem dX3_either_71 : decode cX3_either 71 = .ok (.areturn, 1) := dk_176 (dk_at dksX3_either_2 23 rfl rfl)
def dkwX3_both_2 : List UInt8 := [160, 0, 14, 43, 3, 182, 0, 149, 192, 0, 153, 167, 0, 12, 187, 0, 155, 89, 4, 43, 183, 0, 157, 176]
abbrev dktX3_both_2 : List UInt8 := dkwX3_both_2 ++ []
def dkwX3_both_1 : List UInt8 := [160, 0, 19, 42, 182, 0, 74, 43, 42, 182, 0, 160, 182, 0, 126, 87, 167, 255, 233, 43, 182, 0, 147, 4]
abbrev dktX3_both_1 : List UInt8 := dkwX3_both_1 ++ dktX3_both_2
def dkwX3_both_0 : List UInt8 := [187, 0, 127, 89, 183, 0, 143, 76, 43, 42, 182, 0, 160, 182, 0, 126, 87, 42, 180, 0, 25, 17, 0, 214]
abbrev dktX3_both_0 : List UInt8 := dkwX3_both_0 ++ dktX3_both_1
theorem dksX3_both_0 : cX3_both.data.toList.drop 0 = dktX3_both_0 := by decide +kernel
theorem dksX3_both_1 : cX3_both.data.toList.drop 24 = dktX3_both_1 := dk_seg dksX3_both_0 24 rfl rfl
theorem dksX3_both_2 : cX3_both.data.toList.drop 48 = dktX3_both_2 := dk_seg dksX3_both_1 24 rfl rfl
theorem dX3_both_0 : decode cX3_both 0 = .ok (.new 127, 3) := dk_187 0 127 (dk_at dksX3_both_0 0 rfl rfl)
theorem dX3_both_3 : decode cX3_both 3 = .ok (.dup, 1) := dk_89 (dk_at dksX3_both_0 3 rfl rfl)
theorem dX3_both_4 : decode cX3_both 4 = .ok (.invokespecial 143, 3) := dk_183 0 143 (dk_at dksX3_both_0 4 rfl rfl)
theorem dX3_both_7 : decode cX3_both 7 = .ok (.astore_n 1, 1) := dk_76 (dk_at dksX3_both_0 7 rfl rfl)
theorem dX3_both_8 : decode cX3_both 8 = .ok (.aload_n 1, 1) := dk_43 (dk_at dksX3_both_0 8 rfl rfl)
theorem dX3_both_9 : decode cX3_both 9 = .ok (.aload_n 0, 1) := dk_42 (dk_at dksX3_both_0 9 rfl rfl)
theorem dX3_both_10 : decode cX3_both 10 = .ok (.invokevirtual 160, 3) := dk_182 0 160 (dk_at dksX3_both_0 10 rfl rfl)
theorem dX3_both_13 : decode cX3_both 13 = .ok (.invokevirtual 126, 3) := dk_182 0 126 (dk_at dksX3_both_0 13 rfl rfl)
theorem dX3_both_16 : decode cX3_both 16 = .ok (.pop, 1) := dk_87 (dk_at dksX3_both_0 16 rfl rfl)
theorem dX3_both_17 : decode cX3_both 17 = .ok (.aload_n 0, 1) := dk_42 (dk_at dksX3_both_0 17 rfl rfl)
theorem dX3_both_18 : decode cX3_both 18 = .ok (.getfield 25, 3) := dk_180 0 25 (dk_at dksX3_both_0 18 rfl rfl)
theorem dX3_both_21 : decode cX3_both 21 = .ok (.sipush 214, 3) := dk_17 0 214 (dk_at dksX3_both_0 21 rfl rfl)
theorem dX3_both_24 : decode cX3_both 24 = .ok (.if_icmp .ne 19, 3) := dk_160 0 19 (dk_at dksX3_both_1 0 rfl rfl)
theorem dX3_both_27 : decode cX3_both 27 = .ok (.aload_n 0, 1) := dk_42 (dk_at dksX3_both_1 3 rfl rfl)
theorem dX3_both_28 : decode cX3_both 28 = .ok (.invokevirtual 74, 3) := dk_182 0 74 (dk_at dksX3_both_1 4 rfl rfl)
theorem dX3_both_31 : decode cX3_both 31 = .ok (.aload_n 1, 1) := dk_43 (dk_at dksX3_both_1 7 rfl rfl)
theorem dX3_both_32 : decode cX3_both 32 = .ok (.aload_n 0, 1) := dk_42 (dk_at dksX3_both_1 8 rfl rfl)
theorem dX3_both_33 : decode cX3_both 33 = .ok (.invokevirtual 160, 3) := dk_182 0 160 (dk_at dksX3_both_1 9 rfl rfl)
theorem dX3_both_36 : decode cX3_both 36 = .ok (.invokevirtual 126, 3) := dk_182 0 126 (dk_at dksX3_both_1 12 rfl rfl)
theorem dX3_both_39 : decode cX3_both 39 = .ok (.pop, 1) := dk_87 (dk_at dksX3_both_1 15 rfl rfl)
theorem dX3_both_40 : decode cX3_both 40 = .ok (.goto (-23), 3) := dk_167 255 233 (dk_at dksX3_both_1 16 rfl rfl)
theorem dX3_both_43 : decode cX3_both 43 = .ok (.aload_n 1, 1) := dk_43 (dk_at dksX3_both_1 19 rfl rfl)
theorem dX3_both_44 : decode cX3_both 44 = .ok (.invokevirtual 147, 3) := dk_182 0 147 (dk_at dksX3_both_1 20 rfl rfl)
theorem dX3_both_47 : decode cX3_both 47 = .ok (.iconst 1, 1) := dk_4 (dk_at dksX3_both_1 23 rfl rfl)
theorem dX3_both_48 : decode cX3_both 48 = .ok (.if_icmp .ne 14, 3) := dk_160 0 14 (dk_at dksX3_both_2 0 rfl rfl)
theorem dX3_both_51 : decode cX3_both 51 = .ok (.aload_n 1, 1) := dk_43 (dk_at dksX3_both_2 3 rfl rfl)
theorem dX3_both_52 : decode cX3_both 52 = .ok (.iconst 0, 1) := dk_3 (dk_at dksX3_both_2 4 rfl rfl)
theorem dX3_both_53 : decode cX3_both 53 = .ok (.invokevirtual 149, 3) := dk_182 0 149 (dk_at dksX3_both_2 5 rfl rfl)
theorem dX3_both_56 : decode cX3_both 56 = .ok (.checkcast 153, 3) := dk_192 0 153 (dk_at dksX3_both_2 8 rfl rfl)
theorem dX3_both_59 : decode cX3_both 59 = .ok (.goto 12, 3) := dk_167 0 12 (dk_at dksX3_both_2 11 rfl rfl)
theorem dX3_both_62 : decode cX3_both 62 = .ok (.new 155, 3) := dk_187 0 155 (dk_at dksX3_both_2 14 rfl rfl)
theorem dX3_both_65 : decode cX3_both 65 = .ok (.dup, 1) := dk_89 (dk_at dksX3_both_2 17 rfl rfl)
theorem dX3_both_66 : decode cX3_both 66 = .ok (.iconst 1, 1) := dk_4 (dk_at dksX3_both_2 18 rfl rfl)
theorem dX3_both_67 : decode cX3_both 67 = .ok (.aload_n 1, 1) := dk_43 (dk_at dksX3_both_2 19 rfl rfl)
theorem dX3_both_68 : decode cX3_both 68 = .ok (.invokespecial 157, 3) := dk_183 0 157 (dk_at dksX3_both_2 20 rfl rfl)
theorem dX3_both_71 : decode cX3_both 71 = .ok (.areturn, 1) := dk_176 (dk_at dksX3_both_2 23 rfl rfl)
def dkwX3_ask_4 : List UInt8 := [191, 42, 182, 0, 74, 187, 0, 171, 89, 28, 43, 42, 182, 0, 108, 183, 0, 173, 176]
abbrev dktX3_ask_4 : List UInt8 := dkwX3_ask_4 ++ []
def dkwX3_ask_3 : List UInt8 := [16, 35, 159, 0, 23, 28, 17, 1, 47, 159, 0, 16, 28, 17, 1, 48, 159, 0, 9, 42, 4, 182, 0, 70]
abbrev dktX3_ask_3 : List UInt8 := dkwX3_ask_3 ++ dktX3_ask_4
def dkwX3_ask_2 : List UInt8 := [180, 0, 25, 61, 28, 16, 60, 159, 0, 41, 28, 16, 62, 159, 0, 35, 28, 16, 61, 159, 0, 29, 28]
abbrev dktX3_ask_2 : List UInt8 := dkwX3_ask_2 ++ dktX3_ask_3
def dkwX3_ask_1 : List UInt8 := [183, 0, 168, 76, 42, 89, 180, 0, 77, 4, 100, 181, 0, 77, 43, 176, 42, 182, 0, 108, 76, 42]
abbrev dktX3_ask_1 : List UInt8 := dkwX3_ask_1 ++ dktX3_ask_2
def dkwX3_ask_0 : List UInt8 := [42, 180, 0, 25, 17, 0, 215, 160, 0, 31, 42, 182, 0, 163, 187, 0, 166, 89, 42, 182, 0, 160]
abbrev dktX3_ask_0 : List UInt8 := dkwX3_ask_0 ++ dktX3_ask_1
theorem dksX3_ask_0 : cX3_ask.data.toList.drop 0 = dktX3_ask_0 := by decide +kernel
theorem dksX3_ask_1 : cX3_ask.data.toList.drop 22 = dktX3_ask_1 := dk_seg dksX3_ask_0 22 rfl rfl
theorem dksX3_ask_2 : cX3_ask.data.toList.drop 44 = dktX3_ask_2 := dk_seg dksX3_ask_1 22 rfl rfl
theorem dksX3_ask_3 : cX3_ask.data.toList.drop 67 = dktX3_ask_3 := dk_seg dksX3_ask_2 23 rfl rfl
theorem dksX3_ask_4 : cX3_ask.data.toList.drop 91 = dktX3_ask_4 := dk_seg dksX3_ask_3 24 rfl rfl
theorem dX3_ask_0 : decode cX3_ask 0 = .ok (.aload_n 0, 1) := dk_42 (dk_at dksX3_ask_0 0 rfl rfl)
theorem dX3_ask_1 : decode cX3_ask 1 = .ok (.getfield 25, 3) := dk_180 0 25 (dk_at dksX3_ask_0 1 rfl rfl)
theorem dX3_ask_4 : decode cX3_ask 4 = .ok (.sipush 215, 3) := dk_17 0 215 (dk_at dksX3_ask_0 4 rfl rfl)
theorem dX3_ask_7 : decode cX3_ask 7 = .ok (.if_icmp .ne 31, 3) := dk_160 0 31 (dk_at dksX3_ask_0 7 rfl rfl)
theorem dX3_ask_10 : decode cX3_ask 10 = .ok (.aload_n 0, 1) := dk_42 (dk_at dksX3_ask_0 10 rfl rfl)
theorem dX3_ask_11 : decode cX3_ask 11 = .ok (.invokevirtual 163, 3) := dk_182 0 163 (dk_at dksX3_ask_0 11 rfl rfl)
theorem dX3_ask_14 : decode cX3_ask 14 = .ok (.new 166, 3) := dk_187 0 166 (dk_at dksX3_ask_0 14 rfl rfl)
theorem dX3_ask_17 : decode cX3_ask 17 = .ok (.dup, 1) := dk_89 (dk_at dksX3_ask_0 17 rfl rfl)
theorem dX3_ask_18 : decode cX3_ask 18 = .ok (.aload_n 0, 1) := dk_42 (dk_at dksX3_ask_0 18 rfl rfl)
theorem dX3_ask_19 : decode cX3_ask 19 = .ok (.invokevirtual 160, 3) := dk_182 0 160 (dk_at dksX3_ask_0 19 rfl rfl)
theorem dX3_ask_22 : decode cX3_ask 22 = .ok (.invokespecial 168, 3) := dk_183 0 168 (dk_at dksX3_ask_1 0 rfl rfl)
theorem dX3_ask_25 : decode cX3_ask 25 = .ok (.astore_n 1, 1) := dk_76 (dk_at dksX3_ask_1 3 rfl rfl)
theorem dX3_ask_26 : decode cX3_ask 26 = .ok (.aload_n 0, 1) := dk_42 (dk_at dksX3_ask_1 4 rfl rfl)
theorem dX3_ask_27 : decode cX3_ask 27 = .ok (.dup, 1) := dk_89 (dk_at dksX3_ask_1 5 rfl rfl)
theorem dX3_ask_28 : decode cX3_ask 28 = .ok (.getfield 77, 3) := dk_180 0 77 (dk_at dksX3_ask_1 6 rfl rfl)
theorem dX3_ask_31 : decode cX3_ask 31 = .ok (.iconst 1, 1) := dk_4 (dk_at dksX3_ask_1 9 rfl rfl)
theorem dX3_ask_32 : decode cX3_ask 32 = .ok (.isub, 1) := dk_100 (dk_at dksX3_ask_1 10 rfl rfl)
theorem dX3_ask_33 : decode cX3_ask 33 = .ok (.putfield 77, 3) := dk_181 0 77 (dk_at dksX3_ask_1 11 rfl rfl)
theorem dX3_ask_36 : decode cX3_ask 36 = .ok (.aload_n 1, 1) := dk_43 (dk_at dksX3_ask_1 14 rfl rfl)
theorem dX3_ask_37 : decode cX3_ask 37 = .ok (.areturn, 1) := dk_176 (dk_at dksX3_ask_1 15 rfl rfl)
theorem dX3_ask_38 : decode cX3_ask 38 = .ok (.aload_n 0, 1) := dk_42 (dk_at dksX3_ask_1 16 rfl rfl)
theorem dX3_ask_39 : decode cX3_ask 39 = .ok (.invokevirtual 108, 3) := dk_182 0 108 (dk_at dksX3_ask_1 17 rfl rfl)
theorem dX3_ask_42 : decode cX3_ask 42 = .ok (.astore_n 1, 1) := dk_76 (dk_at dksX3_ask_1 20 rfl rfl)
theorem dX3_ask_43 : decode cX3_ask 43 = .ok (.aload_n 0, 1) := dk_42 (dk_at dksX3_ask_1 21 rfl rfl)
theorem dX3_ask_44 : decode cX3_ask 44 = .ok (.getfield 25, 3) := dk_180 0 25 (dk_at dksX3_ask_2 0 rfl rfl)
theorem dX3_ask_47 : decode cX3_ask 47 = .ok (.istore_n 2, 1) := dk_61 (dk_at dksX3_ask_2 3 rfl rfl)
theorem dX3_ask_48 : decode cX3_ask 48 = .ok (.iload_n 2, 1) := dk_28 (dk_at dksX3_ask_2 4 rfl rfl)
theorem dX3_ask_49 : decode cX3_ask 49 = .ok (.bipush 60, 2) := dk_16 60 (dk_at dksX3_ask_2 5 rfl rfl)
theorem dX3_ask_51 : decode cX3_ask 51 = .ok (.if_icmp .eq 41, 3) := dk_159 0 41 (dk_at dksX3_ask_2 7 rfl rfl)
theorem dX3_ask_54 : decode cX3_ask 54 = .ok (.iload_n 2, 1) := dk_28 (dk_at dksX3_ask_2 10 rfl rfl)
theorem dX3_ask_55 : decode cX3_ask 55 = .ok (.bipush 62, 2) := dk_16 62 (dk_at dksX3_ask_2 11 rfl rfl)
theorem dX3_ask_57 : decode cX3_ask 57 = .ok (.if_icmp .eq 35, 3) := dk_159 0 35 (dk_at dksX3_ask_2 13 rfl rfl)
theorem dX3_ask_60 : decode cX3_ask 60 = .ok (.iload_n 2, 1) := dk_28 (dk_at dksX3_ask_2 16 rfl rfl)
theorem dX3_ask_61 : decode cX3_ask 61 = .ok (.bipush 61, 2) := dk_16 61 (dk_at dksX3_ask_2 17 rfl rfl)
theorem dX3_ask_63 : decode cX3_ask 63 = .ok (.if_icmp .eq 29, 3) := dk_159 0 29 (dk_at dksX3_ask_2 19 rfl rfl)
theorem dX3_ask_66 : decode cX3_ask 66 = .ok (.iload_n 2, 1) := dk_28 (dk_at dksX3_ask_2 22 rfl rfl)
theorem dX3_ask_67 : decode cX3_ask 67 = .ok (.bipush 35, 2) := dk_16 35 (dk_at dksX3_ask_3 0 rfl rfl)
theorem dX3_ask_69 : decode cX3_ask 69 = .ok (.if_icmp .eq 23, 3) := dk_159 0 23 (dk_at dksX3_ask_3 2 rfl rfl)
theorem dX3_ask_72 : decode cX3_ask 72 = .ok (.iload_n 2, 1) := dk_28 (dk_at dksX3_ask_3 5 rfl rfl)
theorem dX3_ask_73 : decode cX3_ask 73 = .ok (.sipush 303, 3) := dk_17 1 47 (dk_at dksX3_ask_3 6 rfl rfl)
theorem dX3_ask_76 : decode cX3_ask 76 = .ok (.if_icmp .eq 16, 3) := dk_159 0 16 (dk_at dksX3_ask_3 9 rfl rfl)
theorem dX3_ask_79 : decode cX3_ask 79 = .ok (.iload_n 2, 1) := dk_28 (dk_at dksX3_ask_3 12 rfl rfl)
theorem dX3_ask_80 : decode cX3_ask 80 = .ok (.sipush 304, 3) := dk_17 1 48 (dk_at dksX3_ask_3 13 rfl rfl)
theorem dX3_ask_83 : decode cX3_ask 83 = .ok (.if_icmp .eq 9, 3) := dk_159 0 9 (dk_at dksX3_ask_3 16 rfl rfl)
theorem dX3_ask_86 : decode cX3_ask 86 = .ok (.aload_n 0, 1) := dk_42 (dk_at dksX3_ask_3 19 rfl rfl)
theorem dX3_ask_87 : decode cX3_ask 87 = .ok (.iconst 1, 1) := dk_4 (dk_at dksX3_ask_3 20 rfl rfl)
theorem dX3_ask_88 : decode cX3_ask 88 = .ok (.invokevirtual 70, 3) := dk_182 0 70 (dk_at dksX3_ask_3 21 rfl rfl)
theorem dX3_ask_91 : decode cX3_ask 91 = .ok (.athrow, 1) := dk_191 (dk_at dksX3_ask_4 0 rfl rfl)
theorem dX3_ask_92 : decode cX3_ask 92 = .ok (.aload_n 0, 1) := dk_42 (dk_at dksX3_ask_4 1 rfl rfl)
theorem dX3_ask_93 : decode cX3_ask 93 = .ok (.invokevirtual 74, 3) := dk_182 0 74 (dk_at dksX3_ask_4 2 rfl rfl)
theorem dX3_ask_96 : decode cX3_ask 96 = .ok (.new 171, 3) := dk_187 0 171 (dk_at dksX3_ask_4 5 rfl rfl)
theorem dX3_ask_99 : decode cX3_ask 99 = .ok (.dup, 1) := dk_89 (dk_at dksX3_ask_4 8 rfl rfl)
theorem dX3_ask_100 : decode cX3_ask 100 = .ok (.iload_n 2, 1) := dk_28 (dk_at dksX3_ask_4 9 rfl rfl)
theorem dX3_ask_101 : decode cX3_ask 101 = .ok (.aload_n 1, 1) := dk_43 (dk_at dksX3_ask_4 10 rfl rfl)
theorem dX3_ask_102 : decode cX3_ask 102 = .ok (.aload_n 0, 1) := dk_42 (dk_at dksX3_ask_4 11 rfl rfl)
theorem dX3_ask_103 : decode cX3_ask 103 = .ok (.invokevirtual 108, 3) := dk_182 0 108 (dk_at dksX3_ask_4 12 rfl rfl)
theorem dX3_ask_106 : decode cX3_ask 106 = .ok (.invokespecial 173, 3) := dk_183 0 173 (dk_at dksX3_ask_4 15 rfl rfl)
theorem dX3_ask_109 : decode cX3_ask 109 = .ok (.areturn, 1) := dk_176 (dk_at dksX3_ask_4 18 rfl rfl)
def dkwX3_kind_2 : List UInt8 := [17, 0, 209, 182, 0, 104, 43, 180, 0, 132, 28, 42, 4, 16, 9, 182, 0, 136, 79, 177]
abbrev dktX3_kind_2 : List UInt8 := dkwX3_kind_2 ++ []
def dkwX3_kind_1 : List UInt8 := [180, 0, 43, 46, 158, 0, 9, 42, 7, 182, 0, 70, 191, 42, 3, 16, 19, 182, 0, 136, 61, 42]
abbrev dktX3_kind_1 : List UInt8 := dkwX3_kind_1 ++ dktX3_kind_2
def dkwX3_kind_0 : List UInt8 := [42, 180, 0, 25, 17, 1, 44, 160, 0, 30, 42, 180, 0, 43, 16, 20, 162, 0, 21, 43, 180, 0, 132, 42]
abbrev dktX3_kind_0 : List UInt8 := dkwX3_kind_0 ++ dktX3_kind_1
theorem dksX3_kind_0 : cX3_kind.data.toList.drop 0 = dktX3_kind_0 := by decide +kernel
theorem dksX3_kind_1 : cX3_kind.data.toList.drop 24 = dktX3_kind_1 := dk_seg dksX3_kind_0 24 rfl rfl
theorem dksX3_kind_2 : cX3_kind.data.toList.drop 46 = dktX3_kind_2 := dk_seg dksX3_kind_1 22 rfl rfl
theorem dX3_kind_0 : decode cX3_kind 0 = .ok (.aload_n 0, 1) := dk_42 (dk_at dksX3_kind_0 0 rfl rfl)
theorem dX3_kind_1 : decode cX3_kind 1 = .ok (.getfield 25, 3) := dk_180 0 25 (dk_at dksX3_kind_0 1 rfl rfl)
theorem dX3_kind_4 : decode cX3_kind 4 = .ok (.sipush 300, 3) := dk_17 1 44 (dk_at dksX3_kind_0 4 rfl rfl)
theorem dX3_kind_7 : decode cX3_kind 7 = .ok (.if_icmp .ne 30, 3) := dk_160 0 30 (dk_at dksX3_kind_0 7 rfl rfl)
theorem dX3_kind_10 : decode cX3_kind 10 = .ok (.aload_n 0, 1) := dk_42 (dk_at dksX3_kind_0 10 rfl rfl)
theorem dX3_kind_11 : decode cX3_kind 11 = .ok (.getfield 43, 3) := dk_180 0 43 (dk_at dksX3_kind_0 11 rfl rfl)
theorem dX3_kind_14 : decode cX3_kind 14 = .ok (.bipush 20, 2) := dk_16 20 (dk_at dksX3_kind_0 14 rfl rfl)
theorem dX3_kind_16 : decode cX3_kind 16 = .ok (.if_icmp .ge 21, 3) := dk_162 0 21 (dk_at dksX3_kind_0 16 rfl rfl)
theorem dX3_kind_19 : decode cX3_kind 19 = .ok (.aload_n 1, 1) := dk_43 (dk_at dksX3_kind_0 19 rfl rfl)
theorem dX3_kind_20 : decode cX3_kind 20 = .ok (.getfield 132, 3) := dk_180 0 132 (dk_at dksX3_kind_0 20 rfl rfl)
theorem dX3_kind_23 : decode cX3_kind 23 = .ok (.aload_n 0, 1) := dk_42 (dk_at dksX3_kind_0 23 rfl rfl)
theorem dX3_kind_24 : decode cX3_kind 24 = .ok (.getfield 43, 3) := dk_180 0 43 (dk_at dksX3_kind_1 0 rfl rfl)
theorem dX3_kind_27 : decode cX3_kind 27 = .ok (.iaload, 1) := dk_46 (dk_at dksX3_kind_1 3 rfl rfl)
theorem dX3_kind_28 : decode cX3_kind 28 = .ok (.ifCond .le 9, 3) := dk_158 0 9 (dk_at dksX3_kind_1 4 rfl rfl)
theorem dX3_kind_31 : decode cX3_kind 31 = .ok (.aload_n 0, 1) := dk_42 (dk_at dksX3_kind_1 7 rfl rfl)
theorem dX3_kind_32 : decode cX3_kind 32 = .ok (.iconst 4, 1) := dk_7 (dk_at dksX3_kind_1 8 rfl rfl)
theorem dX3_kind_33 : decode cX3_kind 33 = .ok (.invokevirtual 70, 3) := dk_182 0 70 (dk_at dksX3_kind_1 9 rfl rfl)
theorem dX3_kind_36 : decode cX3_kind 36 = .ok (.athrow, 1) := dk_191 (dk_at dksX3_kind_1 12 rfl rfl)
theorem dX3_kind_37 : decode cX3_kind 37 = .ok (.aload_n 0, 1) := dk_42 (dk_at dksX3_kind_1 13 rfl rfl)
theorem dX3_kind_38 : decode cX3_kind 38 = .ok (.iconst 0, 1) := dk_3 (dk_at dksX3_kind_1 14 rfl rfl)
theorem dX3_kind_39 : decode cX3_kind 39 = .ok (.bipush 19, 2) := dk_16 19 (dk_at dksX3_kind_1 15 rfl rfl)
theorem dX3_kind_41 : decode cX3_kind 41 = .ok (.invokevirtual 136, 3) := dk_182 0 136 (dk_at dksX3_kind_1 17 rfl rfl)
theorem dX3_kind_44 : decode cX3_kind 44 = .ok (.istore_n 2, 1) := dk_61 (dk_at dksX3_kind_1 20 rfl rfl)
theorem dX3_kind_45 : decode cX3_kind 45 = .ok (.aload_n 0, 1) := dk_42 (dk_at dksX3_kind_1 21 rfl rfl)
theorem dX3_kind_46 : decode cX3_kind 46 = .ok (.sipush 209, 3) := dk_17 0 209 (dk_at dksX3_kind_2 0 rfl rfl)
theorem dX3_kind_49 : decode cX3_kind 49 = .ok (.invokevirtual 104, 3) := dk_182 0 104 (dk_at dksX3_kind_2 3 rfl rfl)
theorem dX3_kind_52 : decode cX3_kind 52 = .ok (.aload_n 1, 1) := dk_43 (dk_at dksX3_kind_2 6 rfl rfl)
theorem dX3_kind_53 : decode cX3_kind 53 = .ok (.getfield 132, 3) := dk_180 0 132 (dk_at dksX3_kind_2 7 rfl rfl)
theorem dX3_kind_56 : decode cX3_kind 56 = .ok (.iload_n 2, 1) := dk_28 (dk_at dksX3_kind_2 10 rfl rfl)
theorem dX3_kind_57 : decode cX3_kind 57 = .ok (.aload_n 0, 1) := dk_42 (dk_at dksX3_kind_2 11 rfl rfl)
theorem dX3_kind_58 : decode cX3_kind 58 = .ok (.iconst 1, 1) := dk_4 (dk_at dksX3_kind_2 12 rfl rfl)
theorem dX3_kind_59 : decode cX3_kind 59 = .ok (.bipush 9, 2) := dk_16 9 (dk_at dksX3_kind_2 13 rfl rfl)
theorem dX3_kind_61 : decode cX3_kind 61 = .ok (.invokevirtual 136, 3) := dk_182 0 136 (dk_at dksX3_kind_2 15 rfl rfl)
theorem dX3_kind_64 : decode cX3_kind 64 = .ok (.iastore, 1) := dk_79 (dk_at dksX3_kind_2 18 rfl rfl)
theorem dX3_kind_65 : decode cX3_kind 65 = .ok (.return_, 1) := dk_177 (dk_at dksX3_kind_2 19 rfl rfl)
def dkwX3_doing_7 : List UInt8 := [4, 16, 99, 182, 0, 136, 27, 183, 0, 140, 176]
abbrev dktX3_doing_7 : List UInt8 := dkwX3_doing_7 ++ []
def dkwX3_doing_6 : List UInt8 := [2, 27, 183, 0, 140, 176, 42, 17, 0, 211, 182, 0, 104, 187, 0, 138, 89, 42, 180, 0, 83, 28, 29, 42]
abbrev dktX3_doing_6 : List UInt8 := dkwX3_doing_6 ++ dktX3_doing_7
def dkwX3_doing_5 : List UInt8 := [182, 0, 136, 62, 42, 180, 0, 83, 17, 0, 204, 159, 0, 19, 187, 0, 138, 89, 42, 180, 0, 83, 28, 29]
abbrev dktX3_doing_5 : List UInt8 := dkwX3_doing_5 ++ dktX3_doing_6
def dkwX3_doing_4 : List UInt8 := [182, 0, 104, 42, 3, 42, 180, 0, 83, 17, 0, 205, 160, 0, 8, 16, 15, 167, 0, 5, 16, 9]
abbrev dktX3_doing_4 : List UInt8 := dkwX3_doing_4 ++ dktX3_doing_5
def dkwX3_doing_3 : List UInt8 := [183, 0, 140, 176, 42, 42, 180, 0, 83, 17, 0, 205, 160, 0, 9, 17, 0, 212, 167, 0, 6, 17, 0, 210]
abbrev dktX3_doing_3 : List UInt8 := dkwX3_doing_3 ++ dktX3_doing_4
def dkwX3_doing_2 : List UInt8 := [42, 180, 0, 83, 17, 0, 208, 160, 0, 19, 187, 0, 138, 89, 42, 180, 0, 83, 28, 2, 2, 27]
abbrev dktX3_doing_2 : List UInt8 := dkwX3_doing_2 ++ dktX3_doing_3
def dkwX3_doing_1 : List UInt8 := [160, 0, 8, 16, 99, 167, 0, 5, 16, 15, 182, 0, 136, 61, 42, 180, 0, 83, 17, 0, 207, 159, 0, 13]
abbrev dktX3_doing_1 : List UInt8 := dkwX3_doing_1 ++ dktX3_doing_2
def dkwX3_doing_0 : List UInt8 := [42, 3, 42, 180, 0, 83, 17, 0, 207, 160, 0, 8, 16, 9, 167, 0, 20, 42, 180, 0, 83, 17, 0, 208]
abbrev dktX3_doing_0 : List UInt8 := dkwX3_doing_0 ++ dktX3_doing_1
theorem dksX3_doing_0 : cX3_doing.data.toList.drop 0 = dktX3_doing_0 := by decide +kernel
theorem dksX3_doing_1 : cX3_doing.data.toList.drop 24 = dktX3_doing_1 := dk_seg dksX3_doing_0 24 rfl rfl
theorem dksX3_doing_2 : cX3_doing.data.toList.drop 48 = dktX3_doing_2 := dk_seg dksX3_doing_1 24 rfl rfl
theorem dksX3_doing_3 : cX3_doing.data.toList.drop 70 = dktX3_doing_3 := dk_seg dksX3_doing_2 22 rfl rfl
theorem dksX3_doing_4 : cX3_doing.data.toList.drop 94 = dktX3_doing_4 := dk_seg dksX3_doing_3 24 rfl rfl
theorem dksX3_doing_5 : cX3_doing.data.toList.drop 116 = dktX3_doing_5 := dk_seg dksX3_doing_4 22 rfl rfl
theorem dksX3_doing_6 : cX3_doing.data.toList.drop 140 = dktX3_doing_6 := dk_seg dksX3_doing_5 24 rfl rfl
theorem dksX3_doing_7 : cX3_doing.data.toList.drop 164 = dktX3_doing_7 := dk_seg dksX3_doing_6 24 rfl rfl
theorem dX3_doing_0 : decode cX3_doing 0 = .ok (.aload_n 0, 1) := dk_42 (dk_at dksX3_doing_0 0 rfl rfl)
theorem dX3_doing_1 : decode cX3_doing 1 = .ok (.iconst 0, 1) := dk_3 (dk_at dksX3_doing_0 1 rfl rfl)
theorem dX3_doing_2 : decode cX3_doing 2 = .ok (.aload_n 0, 1) := dk_42 (dk_at dksX3_doing_0 2 rfl rfl)
theorem dX3_doing_3 : decode cX3_doing 3 = .ok (.getfield 83, 3) := dk_180 0 83 (dk_at dksX3_doing_0 3 rfl rfl)
theorem dX3_doing_6 : decode cX3_doing 6 = .ok (.sipush 207, 3) := dk_17 0 207 (dk_at dksX3_doing_0 6 rfl rfl)
theorem dX3_doing_9 : decode cX3_doing 9 = .ok (.if_icmp .ne 8, 3) := dk_160 0 8 (dk_at dksX3_doing_0 9 rfl rfl)
theorem dX3_doing_12 : decode cX3_doing 12 = .ok (.bipush 9, 2) := dk_16 9 (dk_at dksX3_doing_0 12 rfl rfl)
theorem dX3_doing_14 : decode cX3_doing 14 = .ok (.goto 20, 3) := dk_167 0 20 (dk_at dksX3_doing_0 14 rfl rfl)
theorem dX3_doing_17 : decode cX3_doing 17 = .ok (.aload_n 0, 1) := dk_42 (dk_at dksX3_doing_0 17 rfl rfl)
theorem dX3_doing_18 : decode cX3_doing 18 = .ok (.getfield 83, 3) := dk_180 0 83 (dk_at dksX3_doing_0 18 rfl rfl)
theorem dX3_doing_21 : decode cX3_doing 21 = .ok (.sipush 208, 3) := dk_17 0 208 (dk_at dksX3_doing_0 21 rfl rfl)
theorem dX3_doing_24 : decode cX3_doing 24 = .ok (.if_icmp .ne 8, 3) := dk_160 0 8 (dk_at dksX3_doing_1 0 rfl rfl)
theorem dX3_doing_27 : decode cX3_doing 27 = .ok (.bipush 99, 2) := dk_16 99 (dk_at dksX3_doing_1 3 rfl rfl)
theorem dX3_doing_29 : decode cX3_doing 29 = .ok (.goto 5, 3) := dk_167 0 5 (dk_at dksX3_doing_1 5 rfl rfl)
theorem dX3_doing_32 : decode cX3_doing 32 = .ok (.bipush 15, 2) := dk_16 15 (dk_at dksX3_doing_1 8 rfl rfl)
theorem dX3_doing_34 : decode cX3_doing 34 = .ok (.invokevirtual 136, 3) := dk_182 0 136 (dk_at dksX3_doing_1 10 rfl rfl)
theorem dX3_doing_37 : decode cX3_doing 37 = .ok (.istore_n 2, 1) := dk_61 (dk_at dksX3_doing_1 13 rfl rfl)
theorem dX3_doing_38 : decode cX3_doing 38 = .ok (.aload_n 0, 1) := dk_42 (dk_at dksX3_doing_1 14 rfl rfl)
theorem dX3_doing_39 : decode cX3_doing 39 = .ok (.getfield 83, 3) := dk_180 0 83 (dk_at dksX3_doing_1 15 rfl rfl)
theorem dX3_doing_42 : decode cX3_doing 42 = .ok (.sipush 207, 3) := dk_17 0 207 (dk_at dksX3_doing_1 18 rfl rfl)
theorem dX3_doing_45 : decode cX3_doing 45 = .ok (.if_icmp .eq 13, 3) := dk_159 0 13 (dk_at dksX3_doing_1 21 rfl rfl)
theorem dX3_doing_48 : decode cX3_doing 48 = .ok (.aload_n 0, 1) := dk_42 (dk_at dksX3_doing_2 0 rfl rfl)
theorem dX3_doing_49 : decode cX3_doing 49 = .ok (.getfield 83, 3) := dk_180 0 83 (dk_at dksX3_doing_2 1 rfl rfl)
theorem dX3_doing_52 : decode cX3_doing 52 = .ok (.sipush 208, 3) := dk_17 0 208 (dk_at dksX3_doing_2 4 rfl rfl)
theorem dX3_doing_55 : decode cX3_doing 55 = .ok (.if_icmp .ne 19, 3) := dk_160 0 19 (dk_at dksX3_doing_2 7 rfl rfl)
theorem dX3_doing_58 : decode cX3_doing 58 = .ok (.new 138, 3) := dk_187 0 138 (dk_at dksX3_doing_2 10 rfl rfl)
theorem dX3_doing_61 : decode cX3_doing 61 = .ok (.dup, 1) := dk_89 (dk_at dksX3_doing_2 13 rfl rfl)
theorem dX3_doing_62 : decode cX3_doing 62 = .ok (.aload_n 0, 1) := dk_42 (dk_at dksX3_doing_2 14 rfl rfl)
theorem dX3_doing_63 : decode cX3_doing 63 = .ok (.getfield 83, 3) := dk_180 0 83 (dk_at dksX3_doing_2 15 rfl rfl)
theorem dX3_doing_66 : decode cX3_doing 66 = .ok (.iload_n 2, 1) := dk_28 (dk_at dksX3_doing_2 18 rfl rfl)
theorem dX3_doing_67 : decode cX3_doing 67 = .ok (.iconst (-1), 1) := dk_2 (dk_at dksX3_doing_2 19 rfl rfl)
theorem dX3_doing_68 : decode cX3_doing 68 = .ok (.iconst (-1), 1) := dk_2 (dk_at dksX3_doing_2 20 rfl rfl)
theorem dX3_doing_69 : decode cX3_doing 69 = .ok (.iload_n 1, 1) := dk_27 (dk_at dksX3_doing_2 21 rfl rfl)
theorem dX3_doing_70 : decode cX3_doing 70 = .ok (.invokespecial 140, 3) := dk_183 0 140 (dk_at dksX3_doing_3 0 rfl rfl)
theorem dX3_doing_73 : decode cX3_doing 73 = .ok (.areturn, 1) := dk_176 (dk_at dksX3_doing_3 3 rfl rfl)
theorem dX3_doing_74 : decode cX3_doing 74 = .ok (.aload_n 0, 1) := dk_42 (dk_at dksX3_doing_3 4 rfl rfl)
theorem dX3_doing_75 : decode cX3_doing 75 = .ok (.aload_n 0, 1) := dk_42 (dk_at dksX3_doing_3 5 rfl rfl)
theorem dX3_doing_76 : decode cX3_doing 76 = .ok (.getfield 83, 3) := dk_180 0 83 (dk_at dksX3_doing_3 6 rfl rfl)
theorem dX3_doing_79 : decode cX3_doing 79 = .ok (.sipush 205, 3) := dk_17 0 205 (dk_at dksX3_doing_3 9 rfl rfl)
theorem dX3_doing_82 : decode cX3_doing 82 = .ok (.if_icmp .ne 9, 3) := dk_160 0 9 (dk_at dksX3_doing_3 12 rfl rfl)
theorem dX3_doing_85 : decode cX3_doing 85 = .ok (.sipush 212, 3) := dk_17 0 212 (dk_at dksX3_doing_3 15 rfl rfl)
theorem dX3_doing_88 : decode cX3_doing 88 = .ok (.goto 6, 3) := dk_167 0 6 (dk_at dksX3_doing_3 18 rfl rfl)
theorem dX3_doing_91 : decode cX3_doing 91 = .ok (.sipush 210, 3) := dk_17 0 210 (dk_at dksX3_doing_3 21 rfl rfl)
theorem dX3_doing_94 : decode cX3_doing 94 = .ok (.invokevirtual 104, 3) := dk_182 0 104 (dk_at dksX3_doing_4 0 rfl rfl)
theorem dX3_doing_97 : decode cX3_doing 97 = .ok (.aload_n 0, 1) := dk_42 (dk_at dksX3_doing_4 3 rfl rfl)
theorem dX3_doing_98 : decode cX3_doing 98 = .ok (.iconst 0, 1) := dk_3 (dk_at dksX3_doing_4 4 rfl rfl)
theorem dX3_doing_99 : decode cX3_doing 99 = .ok (.aload_n 0, 1) := dk_42 (dk_at dksX3_doing_4 5 rfl rfl)
theorem dX3_doing_100 : decode cX3_doing 100 = .ok (.getfield 83, 3) := dk_180 0 83 (dk_at dksX3_doing_4 6 rfl rfl)
theorem dX3_doing_103 : decode cX3_doing 103 = .ok (.sipush 205, 3) := dk_17 0 205 (dk_at dksX3_doing_4 9 rfl rfl)
theorem dX3_doing_106 : decode cX3_doing 106 = .ok (.if_icmp .ne 8, 3) := dk_160 0 8 (dk_at dksX3_doing_4 12 rfl rfl)
theorem dX3_doing_109 : decode cX3_doing 109 = .ok (.bipush 15, 2) := dk_16 15 (dk_at dksX3_doing_4 15 rfl rfl)
theorem dX3_doing_111 : decode cX3_doing 111 = .ok (.goto 5, 3) := dk_167 0 5 (dk_at dksX3_doing_4 17 rfl rfl)
theorem dX3_doing_114 : decode cX3_doing 114 = .ok (.bipush 9, 2) := dk_16 9 (dk_at dksX3_doing_4 20 rfl rfl)
theorem dX3_doing_116 : decode cX3_doing 116 = .ok (.invokevirtual 136, 3) := dk_182 0 136 (dk_at dksX3_doing_5 0 rfl rfl)
theorem dX3_doing_119 : decode cX3_doing 119 = .ok (.istore_n 3, 1) := dk_62 (dk_at dksX3_doing_5 3 rfl rfl)
theorem dX3_doing_120 : decode cX3_doing 120 = .ok (.aload_n 0, 1) := dk_42 (dk_at dksX3_doing_5 4 rfl rfl)
theorem dX3_doing_121 : decode cX3_doing 121 = .ok (.getfield 83, 3) := dk_180 0 83 (dk_at dksX3_doing_5 5 rfl rfl)
theorem dX3_doing_124 : decode cX3_doing 124 = .ok (.sipush 204, 3) := dk_17 0 204 (dk_at dksX3_doing_5 8 rfl rfl)
theorem dX3_doing_127 : decode cX3_doing 127 = .ok (.if_icmp .eq 19, 3) := dk_159 0 19 (dk_at dksX3_doing_5 11 rfl rfl)
theorem dX3_doing_130 : decode cX3_doing 130 = .ok (.new 138, 3) := dk_187 0 138 (dk_at dksX3_doing_5 14 rfl rfl)
theorem dX3_doing_133 : decode cX3_doing 133 = .ok (.dup, 1) := dk_89 (dk_at dksX3_doing_5 17 rfl rfl)
theorem dX3_doing_134 : decode cX3_doing 134 = .ok (.aload_n 0, 1) := dk_42 (dk_at dksX3_doing_5 18 rfl rfl)
theorem dX3_doing_135 : decode cX3_doing 135 = .ok (.getfield 83, 3) := dk_180 0 83 (dk_at dksX3_doing_5 19 rfl rfl)
theorem dX3_doing_138 : decode cX3_doing 138 = .ok (.iload_n 2, 1) := dk_28 (dk_at dksX3_doing_5 22 rfl rfl)
theorem dX3_doing_139 : decode cX3_doing 139 = .ok (.iload_n 3, 1) := dk_29 (dk_at dksX3_doing_5 23 rfl rfl)
theorem dX3_doing_140 : decode cX3_doing 140 = .ok (.iconst (-1), 1) := dk_2 (dk_at dksX3_doing_6 0 rfl rfl)
theorem dX3_doing_141 : decode cX3_doing 141 = .ok (.iload_n 1, 1) := dk_27 (dk_at dksX3_doing_6 1 rfl rfl)
theorem dX3_doing_142 : decode cX3_doing 142 = .ok (.invokespecial 140, 3) := dk_183 0 140 (dk_at dksX3_doing_6 2 rfl rfl)
theorem dX3_doing_145 : decode cX3_doing 145 = .ok (.areturn, 1) := dk_176 (dk_at dksX3_doing_6 5 rfl rfl)
theorem dX3_doing_146 : decode cX3_doing 146 = .ok (.aload_n 0, 1) := dk_42 (dk_at dksX3_doing_6 6 rfl rfl)
theorem dX3_doing_147 : decode cX3_doing 147 = .ok (.sipush 211, 3) := dk_17 0 211 (dk_at dksX3_doing_6 7 rfl rfl)
theorem dX3_doing_150 : decode cX3_doing 150 = .ok (.invokevirtual 104, 3) := dk_182 0 104 (dk_at dksX3_doing_6 10 rfl rfl)
theorem dX3_doing_153 : decode cX3_doing 153 = .ok (.new 138, 3) := dk_187 0 138 (dk_at dksX3_doing_6 13 rfl rfl)
theorem dX3_doing_156 : decode cX3_doing 156 = .ok (.dup, 1) := dk_89 (dk_at dksX3_doing_6 16 rfl rfl)
theorem dX3_doing_157 : decode cX3_doing 157 = .ok (.aload_n 0, 1) := dk_42 (dk_at dksX3_doing_6 17 rfl rfl)
theorem dX3_doing_158 : decode cX3_doing 158 = .ok (.getfield 83, 3) := dk_180 0 83 (dk_at dksX3_doing_6 18 rfl rfl)
theorem dX3_doing_161 : decode cX3_doing 161 = .ok (.iload_n 2, 1) := dk_28 (dk_at dksX3_doing_6 21 rfl rfl)
theorem dX3_doing_162 : decode cX3_doing 162 = .ok (.iload_n 3, 1) := dk_29 (dk_at dksX3_doing_6 22 rfl rfl)
theorem dX3_doing_163 : decode cX3_doing 163 = .ok (.aload_n 0, 1) := dk_42 (dk_at dksX3_doing_6 23 rfl rfl)
theorem dX3_doing_164 : decode cX3_doing 164 = .ok (.iconst 1, 1) := dk_4 (dk_at dksX3_doing_7 0 rfl rfl)
theorem dX3_doing_165 : decode cX3_doing 165 = .ok (.bipush 99, 2) := dk_16 99 (dk_at dksX3_doing_7 1 rfl rfl)
theorem dX3_doing_167 : decode cX3_doing 167 = .ok (.invokevirtual 136, 3) := dk_182 0 136 (dk_at dksX3_doing_7 3 rfl rfl)
theorem dX3_doing_170 : decode cX3_doing 170 = .ok (.iload_n 1, 1) := dk_27 (dk_at dksX3_doing_7 6 rfl rfl)
theorem dX3_doing_171 : decode cX3_doing 171 = .ok (.invokespecial 140, 3) := dk_183 0 140 (dk_at dksX3_doing_7 7 rfl rfl)
theorem dX3_doing_174 : decode cX3_doing 174 = .ok (.areturn, 1) := dk_176 (dk_at dksX3_doing_7 10 rfl rfl)
def dkwX4_init_0 : List UInt8 := [42, 183, 0, 3, 42, 16, 20, 188, 10, 181, 0, 9, 42, 187, 0, 15, 89, 183, 0, 17, 181, 0, 18, 177]
abbrev dktX4_init_0 : List UInt8 := dkwX4_init_0 ++ []
theorem dksX4_init_0 : cX4_init.data.toList.drop 0 = dktX4_init_0 := by decide +kernel
theorem dX4_init_0 : decode cX4_init 0 = .ok (.aload_n 0, 1) := dk_42 (dk_at dksX4_init_0 0 rfl rfl)
theorem dX4_init_1 : decode cX4_init 1 = .ok (.invokespecial 3, 3) := dk_183 0 3 (dk_at dksX4_init_0 1 rfl rfl)
theorem dX4_init_4 : decode cX4_init 4 = .ok (.aload_n 0, 1) := dk_42 (dk_at dksX4_init_0 4 rfl rfl)
theorem dX4_init_5 : decode cX4_init 5 = .ok (.bipush 20, 2) := dk_16 20 (dk_at dksX4_init_0 5 rfl rfl)
theorem dX4_init_7 : decode cX4_init 7 = .ok (.newarray .int, 2) := dk_188_10 (dk_at dksX4_init_0 7 rfl rfl)
theorem dX4_init_9 : decode cX4_init 9 = .ok (.putfield 9, 3) := dk_181 0 9 (dk_at dksX4_init_0 9 rfl rfl)
theorem dX4_init_12 : decode cX4_init 12 = .ok (.aload_n 0, 1) := dk_42 (dk_at dksX4_init_0 12 rfl rfl)
theorem dX4_init_13 : decode cX4_init 13 = .ok (.new 15, 3) := dk_187 0 15 (dk_at dksX4_init_0 13 rfl rfl)
theorem dX4_init_16 : decode cX4_init 16 = .ok (.dup, 1) := dk_89 (dk_at dksX4_init_0 16 rfl rfl)
theorem dX4_init_17 : decode cX4_init 17 = .ok (.invokespecial 17, 3) := dk_183 0 17 (dk_at dksX4_init_0 17 rfl rfl)
theorem dX4_init_20 : decode cX4_init 20 = .ok (.putfield 18, 3) := dk_181 0 18 (dk_at dksX4_init_0 20 rfl rfl)
theorem dX4_init_23 : decode cX4_init 23 = .ok (.return_, 1) := dk_177 (dk_at dksX4_init_0 23 rfl rfl)
def dkwX5_init_0 : List UInt8 := [42, 183, 0, 1, 42, 27, 181, 0, 7, 42, 28, 181, 0, 13, 177]
abbrev dktX5_init_0 : List UInt8 := dkwX5_init_0 ++ []
theorem dksX5_init_0 : cX5_init.data.toList.drop 0 = dktX5_init_0 := by decide +kernel
theorem dX5_init_0 : decode cX5_init 0 = .ok (.aload_n 0, 1) := dk_42 (dk_at dksX5_init_0 0 rfl rfl)
theorem dX5_init_1 : decode cX5_init 1 = .ok (.invokespecial 1, 3) := dk_183 0 1 (dk_at dksX5_init_0 1 rfl rfl)
theorem dX5_init_4 : decode cX5_init 4 = .ok (.aload_n 0, 1) := dk_42 (dk_at dksX5_init_0 4 rfl rfl)
theorem dX5_init_5 : decode cX5_init 5 = .ok (.iload_n 1, 1) := dk_27 (dk_at dksX5_init_0 5 rfl rfl)
theorem dX5_init_6 : decode cX5_init 6 = .ok (.putfield 7, 3) := dk_181 0 7 (dk_at dksX5_init_0 6 rfl rfl)
theorem dX5_init_9 : decode cX5_init 9 = .ok (.aload_n 0, 1) := dk_42 (dk_at dksX5_init_0 9 rfl rfl)
theorem dX5_init_10 : decode cX5_init 10 = .ok (.iload_n 2, 1) := dk_28 (dk_at dksX5_init_0 10 rfl rfl)
theorem dX5_init_11 : decode cX5_init 11 = .ok (.putfield 13, 3) := dk_181 0 13 (dk_at dksX5_init_0 11 rfl rfl)
theorem dX5_init_14 : decode cX5_init 14 = .ok (.return_, 1) := dk_177 (dk_at dksX5_init_0 14 rfl rfl)
def dkwX6_init_1 : List UInt8 := [181, 0, 18, 42, 43, 181, 0, 21, 177]
abbrev dktX6_init_1 : List UInt8 := dkwX6_init_1 ++ []
def dkwX6_init_0 : List UInt8 := [42, 183, 0, 3, 42, 187, 0, 9, 89, 183, 0, 11, 181, 0, 12, 42, 187, 0, 9, 89, 183, 0, 11]
abbrev dktX6_init_0 : List UInt8 := dkwX6_init_0 ++ dktX6_init_1
theorem dksX6_init_0 : cX6_init.data.toList.drop 0 = dktX6_init_0 := by decide +kernel
theorem dksX6_init_1 : cX6_init.data.toList.drop 23 = dktX6_init_1 := dk_seg dksX6_init_0 23 rfl rfl
theorem dX6_init_0 : decode cX6_init 0 = .ok (.aload_n 0, 1) := dk_42 (dk_at dksX6_init_0 0 rfl rfl)
theorem dX6_init_1 : decode cX6_init 1 = .ok (.invokespecial 3, 3) := dk_183 0 3 (dk_at dksX6_init_0 1 rfl rfl)
theorem dX6_init_4 : decode cX6_init 4 = .ok (.aload_n 0, 1) := dk_42 (dk_at dksX6_init_0 4 rfl rfl)
theorem dX6_init_5 : decode cX6_init 5 = .ok (.new 9, 3) := dk_187 0 9 (dk_at dksX6_init_0 5 rfl rfl)
theorem dX6_init_8 : decode cX6_init 8 = .ok (.dup, 1) := dk_89 (dk_at dksX6_init_0 8 rfl rfl)
theorem dX6_init_9 : decode cX6_init 9 = .ok (.invokespecial 11, 3) := dk_183 0 11 (dk_at dksX6_init_0 9 rfl rfl)
theorem dX6_init_12 : decode cX6_init 12 = .ok (.putfield 12, 3) := dk_181 0 12 (dk_at dksX6_init_0 12 rfl rfl)
theorem dX6_init_15 : decode cX6_init 15 = .ok (.aload_n 0, 1) := dk_42 (dk_at dksX6_init_0 15 rfl rfl)
theorem dX6_init_16 : decode cX6_init 16 = .ok (.new 9, 3) := dk_187 0 9 (dk_at dksX6_init_0 16 rfl rfl)
theorem dX6_init_19 : decode cX6_init 19 = .ok (.dup, 1) := dk_89 (dk_at dksX6_init_0 19 rfl rfl)
theorem dX6_init_20 : decode cX6_init 20 = .ok (.invokespecial 11, 3) := dk_183 0 11 (dk_at dksX6_init_0 20 rfl rfl)
theorem dX6_init_23 : decode cX6_init 23 = .ok (.putfield 18, 3) := dk_181 0 18 (dk_at dksX6_init_1 0 rfl rfl)
theorem dX6_init_26 : decode cX6_init 26 = .ok (.aload_n 0, 1) := dk_42 (dk_at dksX6_init_1 3 rfl rfl)
theorem dX6_init_27 : decode cX6_init 27 = .ok (.aload_n 1, 1) := dk_43 (dk_at dksX6_init_1 4 rfl rfl)
theorem dX6_init_28 : decode cX6_init 28 = .ok (.putfield 21, 3) := dk_181 0 21 (dk_at dksX6_init_1 5 rfl rfl)
theorem dX6_init_31 : decode cX6_init 31 = .ok (.return_, 1) := dk_177 (dk_at dksX6_init_1 8 rfl rfl)
def dkwX6_add_0 : List UInt8 := [42, 180, 0, 18, 27, 184, 0, 25, 182, 0, 31, 87, 42, 180, 0, 12, 44, 182, 0, 31, 87, 177]
abbrev dktX6_add_0 : List UInt8 := dkwX6_add_0 ++ []
theorem dksX6_add_0 : cX6_add.data.toList.drop 0 = dktX6_add_0 := by decide +kernel
theorem dX6_add_0 : decode cX6_add 0 = .ok (.aload_n 0, 1) := dk_42 (dk_at dksX6_add_0 0 rfl rfl)
theorem dX6_add_1 : decode cX6_add 1 = .ok (.getfield 18, 3) := dk_180 0 18 (dk_at dksX6_add_0 1 rfl rfl)
theorem dX6_add_4 : decode cX6_add 4 = .ok (.iload_n 1, 1) := dk_27 (dk_at dksX6_add_0 4 rfl rfl)
theorem dX6_add_5 : decode cX6_add 5 = .ok (.invokestatic 25, 3) := dk_184 0 25 (dk_at dksX6_add_0 5 rfl rfl)
theorem dX6_add_8 : decode cX6_add 8 = .ok (.invokevirtual 31, 3) := dk_182 0 31 (dk_at dksX6_add_0 8 rfl rfl)
theorem dX6_add_11 : decode cX6_add 11 = .ok (.pop, 1) := dk_87 (dk_at dksX6_add_0 11 rfl rfl)
theorem dX6_add_12 : decode cX6_add 12 = .ok (.aload_n 0, 1) := dk_42 (dk_at dksX6_add_0 12 rfl rfl)
theorem dX6_add_13 : decode cX6_add 13 = .ok (.getfield 12, 3) := dk_180 0 12 (dk_at dksX6_add_0 13 rfl rfl)
theorem dX6_add_16 : decode cX6_add 16 = .ok (.aload_n 2, 1) := dk_44 (dk_at dksX6_add_0 16 rfl rfl)
theorem dX6_add_17 : decode cX6_add 17 = .ok (.invokevirtual 31, 3) := dk_182 0 31 (dk_at dksX6_add_0 17 rfl rfl)
theorem dX6_add_20 : decode cX6_add 20 = .ok (.pop, 1) := dk_87 (dk_at dksX6_add_0 20 rfl rfl)
theorem dX6_add_21 : decode cX6_add 21 = .ok (.return_, 1) := dk_177 (dk_at dksX6_add_0 21 rfl rfl)
def dkwX6_itself_0 : List UInt8 := [42, 180, 0, 12, 182, 0, 35, 153, 0, 10, 42, 180, 0, 21, 167, 0, 4, 42, 176]
abbrev dktX6_itself_0 : List UInt8 := dkwX6_itself_0 ++ []
theorem dksX6_itself_0 : cX6_itself.data.toList.drop 0 = dktX6_itself_0 := by decide +kernel
theorem dX6_itself_0 : decode cX6_itself 0 = .ok (.aload_n 0, 1) := dk_42 (dk_at dksX6_itself_0 0 rfl rfl)
theorem dX6_itself_1 : decode cX6_itself 1 = .ok (.getfield 12, 3) := dk_180 0 12 (dk_at dksX6_itself_0 1 rfl rfl)
theorem dX6_itself_4 : decode cX6_itself 4 = .ok (.invokevirtual 35, 3) := dk_182 0 35 (dk_at dksX6_itself_0 4 rfl rfl)
theorem dX6_itself_7 : decode cX6_itself 7 = .ok (.ifCond .eq 10, 3) := dk_153 0 10 (dk_at dksX6_itself_0 7 rfl rfl)
theorem dX6_itself_10 : decode cX6_itself 10 = .ok (.aload_n 0, 1) := dk_42 (dk_at dksX6_itself_0 10 rfl rfl)
theorem dX6_itself_11 : decode cX6_itself 11 = .ok (.getfield 21, 3) := dk_180 0 21 (dk_at dksX6_itself_0 11 rfl rfl)
theorem dX6_itself_14 : decode cX6_itself 14 = .ok (.goto 4, 3) := dk_167 0 4 (dk_at dksX6_itself_0 14 rfl rfl)
theorem dX6_itself_17 : decode cX6_itself 17 = .ok (.aload_n 0, 1) := dk_42 (dk_at dksX6_itself_0 17 rfl rfl)
theorem dX6_itself_18 : decode cX6_itself 18 = .ok (.areturn, 1) := dk_176 (dk_at dksX6_itself_0 18 rfl rfl)
def dkwX6_of_6 : List UInt8 := [32, 173]
abbrev dktX6_of_6 : List UInt8 := dkwX6_of_6 ++ []
def dkwX6_of_5 : List UInt8 := [109, 55, 8, 20, 0, 56, 20, 0, 58, 22, 8, 184, 0, 60, 184, 0, 66, 65, 132, 4, 1, 167, 255, 130]
abbrev dktX6_of_5 : List UInt8 := dkwX6_of_5 ++ dktX6_of_6
def dkwX6_of_4 : List UInt8 := [160, 0, 10, 32, 22, 5, 105, 167, 0, 18, 22, 5, 9, 148, 154, 0, 7, 9, 167, 0, 7, 32, 22, 5]
abbrev dktX6_of_4 : List UInt8 := dkwX6_of_4 ++ dktX6_of_5
def dkwX6_of_3 : List UInt8 := [22, 5, 97, 167, 0, 46, 21, 7, 16, 45, 160, 0, 10, 32, 22, 5, 101, 167, 0, 32, 21, 7, 16, 42]
abbrev dktX6_of_3 : List UInt8 := dkwX6_of_3 ++ dktX6_of_4
def dkwX6_of_2 : List UInt8 := [180, 0, 18, 21, 4, 182, 0, 49, 192, 0, 26, 182, 0, 53, 54, 7, 21, 7, 16, 43, 160, 0, 10, 32]
abbrev dktX6_of_2 : List UInt8 := dkwX6_of_2 ++ dktX6_of_3
def dkwX6_of_1 : List UInt8 := [162, 0, 120, 42, 180, 0, 12, 21, 4, 182, 0, 49, 192, 0, 40, 43, 185, 0, 39, 2, 0, 55, 5, 42]
abbrev dktX6_of_1 : List UInt8 := dkwX6_of_1 ++ dktX6_of_2
def dkwX6_of_0 : List UInt8 := [42, 180, 0, 21, 43, 185, 0, 39, 2, 0, 65, 3, 54, 4, 21, 4, 42, 180, 0, 12, 182, 0, 45]
abbrev dktX6_of_0 : List UInt8 := dkwX6_of_0 ++ dktX6_of_1
theorem dksX6_of_0 : cX6_of.data.toList.drop 0 = dktX6_of_0 := by decide +kernel
theorem dksX6_of_1 : cX6_of.data.toList.drop 23 = dktX6_of_1 := dk_seg dksX6_of_0 23 rfl rfl
theorem dksX6_of_2 : cX6_of.data.toList.drop 47 = dktX6_of_2 := dk_seg dksX6_of_1 24 rfl rfl
theorem dksX6_of_3 : cX6_of.data.toList.drop 71 = dktX6_of_3 := dk_seg dksX6_of_2 24 rfl rfl
theorem dksX6_of_4 : cX6_of.data.toList.drop 95 = dktX6_of_4 := dk_seg dksX6_of_3 24 rfl rfl
theorem dksX6_of_5 : cX6_of.data.toList.drop 119 = dktX6_of_5 := dk_seg dksX6_of_4 24 rfl rfl
theorem dksX6_of_6 : cX6_of.data.toList.drop 143 = dktX6_of_6 := dk_seg dksX6_of_5 24 rfl rfl
theorem dX6_of_0 : decode cX6_of 0 = .ok (.aload_n 0, 1) := dk_42 (dk_at dksX6_of_0 0 rfl rfl)
theorem dX6_of_1 : decode cX6_of 1 = .ok (.getfield 21, 3) := dk_180 0 21 (dk_at dksX6_of_0 1 rfl rfl)
theorem dX6_of_4 : decode cX6_of 4 = .ok (.aload_n 1, 1) := dk_43 (dk_at dksX6_of_0 4 rfl rfl)
theorem dX6_of_5 : decode cX6_of 5 = .ok (.invokeinterface 39 2, 5) := by decide +kernel
theorem dX6_of_10 : decode cX6_of 10 = .ok (.lstore_n 2, 1) := dk_65 (dk_at dksX6_of_0 10 rfl rfl)
theorem dX6_of_11 : decode cX6_of 11 = .ok (.iconst 0, 1) := dk_3 (dk_at dksX6_of_0 11 rfl rfl)
theorem dX6_of_12 : decode cX6_of 12 = .ok (.istore 4, 2) := dk_54 4 (dk_at dksX6_of_0 12 rfl rfl)
theorem dX6_of_14 : decode cX6_of 14 = .ok (.iload 4, 2) := dk_21 4 (dk_at dksX6_of_0 14 rfl rfl)
theorem dX6_of_16 : decode cX6_of 16 = .ok (.aload_n 0, 1) := dk_42 (dk_at dksX6_of_0 16 rfl rfl)
theorem dX6_of_17 : decode cX6_of 17 = .ok (.getfield 12, 3) := dk_180 0 12 (dk_at dksX6_of_0 17 rfl rfl)
theorem dX6_of_20 : decode cX6_of 20 = .ok (.invokevirtual 45, 3) := dk_182 0 45 (dk_at dksX6_of_0 20 rfl rfl)
theorem dX6_of_23 : decode cX6_of 23 = .ok (.if_icmp .ge 120, 3) := dk_162 0 120 (dk_at dksX6_of_1 0 rfl rfl)
theorem dX6_of_26 : decode cX6_of 26 = .ok (.aload_n 0, 1) := dk_42 (dk_at dksX6_of_1 3 rfl rfl)
theorem dX6_of_27 : decode cX6_of 27 = .ok (.getfield 12, 3) := dk_180 0 12 (dk_at dksX6_of_1 4 rfl rfl)
theorem dX6_of_30 : decode cX6_of 30 = .ok (.iload 4, 2) := dk_21 4 (dk_at dksX6_of_1 7 rfl rfl)
theorem dX6_of_32 : decode cX6_of 32 = .ok (.invokevirtual 49, 3) := dk_182 0 49 (dk_at dksX6_of_1 9 rfl rfl)
theorem dX6_of_35 : decode cX6_of 35 = .ok (.checkcast 40, 3) := dk_192 0 40 (dk_at dksX6_of_1 12 rfl rfl)
theorem dX6_of_38 : decode cX6_of 38 = .ok (.aload_n 1, 1) := dk_43 (dk_at dksX6_of_1 15 rfl rfl)
theorem dX6_of_39 : decode cX6_of 39 = .ok (.invokeinterface 39 2, 5) := by decide +kernel
theorem dX6_of_44 : decode cX6_of 44 = .ok (.lstore 5, 2) := dk_55 5 (dk_at dksX6_of_1 21 rfl rfl)
theorem dX6_of_46 : decode cX6_of 46 = .ok (.aload_n 0, 1) := dk_42 (dk_at dksX6_of_1 23 rfl rfl)
theorem dX6_of_47 : decode cX6_of 47 = .ok (.getfield 18, 3) := dk_180 0 18 (dk_at dksX6_of_2 0 rfl rfl)
theorem dX6_of_50 : decode cX6_of 50 = .ok (.iload 4, 2) := dk_21 4 (dk_at dksX6_of_2 3 rfl rfl)
theorem dX6_of_52 : decode cX6_of 52 = .ok (.invokevirtual 49, 3) := dk_182 0 49 (dk_at dksX6_of_2 5 rfl rfl)
theorem dX6_of_55 : decode cX6_of 55 = .ok (.checkcast 26, 3) := dk_192 0 26 (dk_at dksX6_of_2 8 rfl rfl)
theorem dX6_of_58 : decode cX6_of 58 = .ok (.invokevirtual 53, 3) := dk_182 0 53 (dk_at dksX6_of_2 11 rfl rfl)
theorem dX6_of_61 : decode cX6_of 61 = .ok (.istore 7, 2) := dk_54 7 (dk_at dksX6_of_2 14 rfl rfl)
theorem dX6_of_63 : decode cX6_of 63 = .ok (.iload 7, 2) := dk_21 7 (dk_at dksX6_of_2 16 rfl rfl)
theorem dX6_of_65 : decode cX6_of 65 = .ok (.bipush 43, 2) := dk_16 43 (dk_at dksX6_of_2 18 rfl rfl)
theorem dX6_of_67 : decode cX6_of 67 = .ok (.if_icmp .ne 10, 3) := dk_160 0 10 (dk_at dksX6_of_2 20 rfl rfl)
theorem dX6_of_70 : decode cX6_of 70 = .ok (.lload_n 2, 1) := dk_32 (dk_at dksX6_of_2 23 rfl rfl)
theorem dX6_of_71 : decode cX6_of 71 = .ok (.lload 5, 2) := dk_22 5 (dk_at dksX6_of_3 0 rfl rfl)
theorem dX6_of_73 : decode cX6_of 73 = .ok (.ladd, 1) := dk_97 (dk_at dksX6_of_3 2 rfl rfl)
theorem dX6_of_74 : decode cX6_of 74 = .ok (.goto 46, 3) := dk_167 0 46 (dk_at dksX6_of_3 3 rfl rfl)
theorem dX6_of_77 : decode cX6_of 77 = .ok (.iload 7, 2) := dk_21 7 (dk_at dksX6_of_3 6 rfl rfl)
theorem dX6_of_79 : decode cX6_of 79 = .ok (.bipush 45, 2) := dk_16 45 (dk_at dksX6_of_3 8 rfl rfl)
theorem dX6_of_81 : decode cX6_of 81 = .ok (.if_icmp .ne 10, 3) := dk_160 0 10 (dk_at dksX6_of_3 10 rfl rfl)
theorem dX6_of_84 : decode cX6_of 84 = .ok (.lload_n 2, 1) := dk_32 (dk_at dksX6_of_3 13 rfl rfl)
theorem dX6_of_85 : decode cX6_of 85 = .ok (.lload 5, 2) := dk_22 5 (dk_at dksX6_of_3 14 rfl rfl)
theorem dX6_of_87 : decode cX6_of 87 = .ok (.lsub, 1) := dk_101 (dk_at dksX6_of_3 16 rfl rfl)
theorem dX6_of_88 : decode cX6_of 88 = .ok (.goto 32, 3) := dk_167 0 32 (dk_at dksX6_of_3 17 rfl rfl)
theorem dX6_of_91 : decode cX6_of 91 = .ok (.iload 7, 2) := dk_21 7 (dk_at dksX6_of_3 20 rfl rfl)
theorem dX6_of_93 : decode cX6_of 93 = .ok (.bipush 42, 2) := dk_16 42 (dk_at dksX6_of_3 22 rfl rfl)
theorem dX6_of_95 : decode cX6_of 95 = .ok (.if_icmp .ne 10, 3) := dk_160 0 10 (dk_at dksX6_of_4 0 rfl rfl)
theorem dX6_of_98 : decode cX6_of 98 = .ok (.lload_n 2, 1) := dk_32 (dk_at dksX6_of_4 3 rfl rfl)
theorem dX6_of_99 : decode cX6_of 99 = .ok (.lload 5, 2) := dk_22 5 (dk_at dksX6_of_4 4 rfl rfl)
theorem dX6_of_101 : decode cX6_of 101 = .ok (.lmul, 1) := dk_105 (dk_at dksX6_of_4 6 rfl rfl)
theorem dX6_of_102 : decode cX6_of 102 = .ok (.goto 18, 3) := dk_167 0 18 (dk_at dksX6_of_4 7 rfl rfl)
theorem dX6_of_105 : decode cX6_of 105 = .ok (.lload 5, 2) := dk_22 5 (dk_at dksX6_of_4 10 rfl rfl)
theorem dX6_of_107 : decode cX6_of 107 = .ok (.lconst 0, 1) := dk_9 (dk_at dksX6_of_4 12 rfl rfl)
theorem dX6_of_108 : decode cX6_of 108 = .ok (.lcmp, 1) := dk_148 (dk_at dksX6_of_4 13 rfl rfl)
theorem dX6_of_109 : decode cX6_of 109 = .ok (.ifCond .ne 7, 3) := dk_154 0 7 (dk_at dksX6_of_4 14 rfl rfl)
theorem dX6_of_112 : decode cX6_of 112 = .ok (.lconst 0, 1) := dk_9 (dk_at dksX6_of_4 17 rfl rfl)
theorem dX6_of_113 : decode cX6_of 113 = .ok (.goto 7, 3) := dk_167 0 7 (dk_at dksX6_of_4 18 rfl rfl)
theorem dX6_of_116 : decode cX6_of 116 = .ok (.lload_n 2, 1) := dk_32 (dk_at dksX6_of_4 21 rfl rfl)
theorem dX6_of_117 : decode cX6_of 117 = .ok (.lload 5, 2) := dk_22 5 (dk_at dksX6_of_4 22 rfl rfl)
theorem dX6_of_119 : decode cX6_of 119 = .ok (.ldiv, 1) := dk_109 (dk_at dksX6_of_5 0 rfl rfl)
theorem dX6_of_120 : decode cX6_of 120 = .ok (.lstore 8, 2) := dk_55 8 (dk_at dksX6_of_5 1 rfl rfl)
theorem dX6_of_122 : decode cX6_of 122 = .ok (.ldc2_w 56, 3) := dk_20 0 56 (dk_at dksX6_of_5 3 rfl rfl)
theorem dX6_of_125 : decode cX6_of 125 = .ok (.ldc2_w 58, 3) := dk_20 0 58 (dk_at dksX6_of_5 6 rfl rfl)
theorem dX6_of_128 : decode cX6_of 128 = .ok (.lload 8, 2) := dk_22 8 (dk_at dksX6_of_5 9 rfl rfl)
theorem dX6_of_130 : decode cX6_of 130 = .ok (.invokestatic 60, 3) := dk_184 0 60 (dk_at dksX6_of_5 11 rfl rfl)
theorem dX6_of_133 : decode cX6_of 133 = .ok (.invokestatic 66, 3) := dk_184 0 66 (dk_at dksX6_of_5 14 rfl rfl)
theorem dX6_of_136 : decode cX6_of 136 = .ok (.lstore_n 2, 1) := dk_65 (dk_at dksX6_of_5 17 rfl rfl)
theorem dX6_of_137 : decode cX6_of 137 = .ok (.iinc 4 1, 3) := dk_132 4 1 (dk_at dksX6_of_5 18 rfl rfl)
theorem dX6_of_140 : decode cX6_of 140 = .ok (.goto (-126), 3) := dk_167 255 130 (dk_at dksX6_of_5 21 rfl rfl)
theorem dX6_of_143 : decode cX6_of 143 = .ok (.lload_n 2, 1) := dk_32 (dk_at dksX6_of_6 0 rfl rfl)
theorem dX6_of_144 : decode cX6_of 144 = .ok (.lreturn, 1) := dk_173 (dk_at dksX6_of_6 1 rfl rfl)
def dkwX7_init_0 : List UInt8 := [42, 183, 0, 1, 42, 27, 181, 0, 7, 177]
abbrev dktX7_init_0 : List UInt8 := dkwX7_init_0 ++ []
theorem dksX7_init_0 : cX7_init.data.toList.drop 0 = dktX7_init_0 := by decide +kernel
theorem dX7_init_0 : decode cX7_init 0 = .ok (.aload_n 0, 1) := dk_42 (dk_at dksX7_init_0 0 rfl rfl)
theorem dX7_init_1 : decode cX7_init 1 = .ok (.invokespecial 1, 3) := dk_183 0 1 (dk_at dksX7_init_0 1 rfl rfl)
theorem dX7_init_4 : decode cX7_init 4 = .ok (.aload_n 0, 1) := dk_42 (dk_at dksX7_init_0 4 rfl rfl)
theorem dX7_init_5 : decode cX7_init 5 = .ok (.iload_n 1, 1) := dk_27 (dk_at dksX7_init_0 5 rfl rfl)
theorem dX7_init_6 : decode cX7_init 6 = .ok (.putfield 7, 3) := dk_181 0 7 (dk_at dksX7_init_0 6 rfl rfl)
theorem dX7_init_9 : decode cX7_init 9 = .ok (.return_, 1) := dk_177 (dk_at dksX7_init_0 9 rfl rfl)
def dkwX7_of_0 : List UInt8 := [42, 180, 0, 7, 133, 173]
abbrev dktX7_of_0 : List UInt8 := dkwX7_of_0 ++ []
theorem dksX7_of_0 : cX7_of.data.toList.drop 0 = dktX7_of_0 := by decide +kernel
theorem dX7_of_0 : decode cX7_of 0 = .ok (.aload_n 0, 1) := dk_42 (dk_at dksX7_of_0 0 rfl rfl)
theorem dX7_of_1 : decode cX7_of 1 = .ok (.getfield 7, 3) := dk_180 0 7 (dk_at dksX7_of_0 1 rfl rfl)
theorem dX7_of_4 : decode cX7_of 4 = .ok (.i2l, 1) := dk_133 (dk_at dksX7_of_0 4 rfl rfl)
theorem dX7_of_5 : decode cX7_of 5 = .ok (.lreturn, 1) := dk_173 (dk_at dksX7_of_0 5 rfl rfl)
def dkwX8_init_0 : List UInt8 := [42, 183, 0, 1, 42, 27, 181, 0, 7, 177]
abbrev dktX8_init_0 : List UInt8 := dkwX8_init_0 ++ []
theorem dksX8_init_0 : cX8_init.data.toList.drop 0 = dktX8_init_0 := by decide +kernel
theorem dX8_init_0 : decode cX8_init 0 = .ok (.aload_n 0, 1) := dk_42 (dk_at dksX8_init_0 0 rfl rfl)
theorem dX8_init_1 : decode cX8_init 1 = .ok (.invokespecial 1, 3) := dk_183 0 1 (dk_at dksX8_init_0 1 rfl rfl)
theorem dX8_init_4 : decode cX8_init 4 = .ok (.aload_n 0, 1) := dk_42 (dk_at dksX8_init_0 4 rfl rfl)
theorem dX8_init_5 : decode cX8_init 5 = .ok (.iload_n 1, 1) := dk_27 (dk_at dksX8_init_0 5 rfl rfl)
theorem dX8_init_6 : decode cX8_init 6 = .ok (.putfield 7, 3) := dk_181 0 7 (dk_at dksX8_init_0 6 rfl rfl)
theorem dX8_init_9 : decode cX8_init 9 = .ok (.return_, 1) := dk_177 (dk_at dksX8_init_0 9 rfl rfl)
def dkwX8_of_0 : List UInt8 := [43, 42, 180, 0, 7, 46, 133, 173]
abbrev dktX8_of_0 : List UInt8 := dkwX8_of_0 ++ []
theorem dksX8_of_0 : cX8_of.data.toList.drop 0 = dktX8_of_0 := by decide +kernel
theorem dX8_of_0 : decode cX8_of 0 = .ok (.aload_n 1, 1) := dk_43 (dk_at dksX8_of_0 0 rfl rfl)
theorem dX8_of_1 : decode cX8_of 1 = .ok (.aload_n 0, 1) := dk_42 (dk_at dksX8_of_0 1 rfl rfl)
theorem dX8_of_2 : decode cX8_of 2 = .ok (.getfield 7, 3) := dk_180 0 7 (dk_at dksX8_of_0 2 rfl rfl)
theorem dX8_of_5 : decode cX8_of 5 = .ok (.iaload, 1) := dk_46 (dk_at dksX8_of_0 5 rfl rfl)
theorem dX8_of_6 : decode cX8_of 6 = .ok (.i2l, 1) := dk_133 (dk_at dksX8_of_0 6 rfl rfl)
theorem dX8_of_7 : decode cX8_of 7 = .ok (.lreturn, 1) := dk_173 (dk_at dksX8_of_0 7 rfl rfl)
def dkwX9_init_0 : List UInt8 := [42, 183, 0, 1, 42, 43, 181, 0, 7, 177]
abbrev dktX9_init_0 : List UInt8 := dkwX9_init_0 ++ []
theorem dksX9_init_0 : cX9_init.data.toList.drop 0 = dktX9_init_0 := by decide +kernel
theorem dX9_init_0 : decode cX9_init 0 = .ok (.aload_n 0, 1) := dk_42 (dk_at dksX9_init_0 0 rfl rfl)
theorem dX9_init_1 : decode cX9_init 1 = .ok (.invokespecial 1, 3) := dk_183 0 1 (dk_at dksX9_init_0 1 rfl rfl)
theorem dX9_init_4 : decode cX9_init 4 = .ok (.aload_n 0, 1) := dk_42 (dk_at dksX9_init_0 4 rfl rfl)
theorem dX9_init_5 : decode cX9_init 5 = .ok (.aload_n 1, 1) := dk_43 (dk_at dksX9_init_0 5 rfl rfl)
theorem dX9_init_6 : decode cX9_init 6 = .ok (.putfield 7, 3) := dk_181 0 7 (dk_at dksX9_init_0 6 rfl rfl)
theorem dX9_init_9 : decode cX9_init 9 = .ok (.return_, 1) := dk_177 (dk_at dksX9_init_0 9 rfl rfl)
def dkwX9_of_0 : List UInt8 := [42, 180, 0, 7, 43, 185, 0, 13, 2, 0, 117, 173]
abbrev dktX9_of_0 : List UInt8 := dkwX9_of_0 ++ []
theorem dksX9_of_0 : cX9_of.data.toList.drop 0 = dktX9_of_0 := by decide +kernel
theorem dX9_of_0 : decode cX9_of 0 = .ok (.aload_n 0, 1) := dk_42 (dk_at dksX9_of_0 0 rfl rfl)
theorem dX9_of_1 : decode cX9_of 1 = .ok (.getfield 7, 3) := dk_180 0 7 (dk_at dksX9_of_0 1 rfl rfl)
theorem dX9_of_4 : decode cX9_of 4 = .ok (.aload_n 1, 1) := dk_43 (dk_at dksX9_of_0 4 rfl rfl)
theorem dX9_of_5 : decode cX9_of 5 = .ok (.invokeinterface 13 2, 5) := by decide +kernel
theorem dX9_of_10 : decode cX9_of 10 = .ok (.lneg, 1) := dk_117 (dk_at dksX9_of_0 10 rfl rfl)
theorem dX9_of_11 : decode cX9_of 11 = .ok (.lreturn, 1) := dk_173 (dk_at dksX9_of_0 11 rfl rfl)
def dkwX10_init_0 : List UInt8 := [42, 183, 0, 1, 42, 43, 181, 0, 7, 177]
abbrev dktX10_init_0 : List UInt8 := dkwX10_init_0 ++ []
theorem dksX10_init_0 : cX10_init.data.toList.drop 0 = dktX10_init_0 := by decide +kernel
theorem dX10_init_0 : decode cX10_init 0 = .ok (.aload_n 0, 1) := dk_42 (dk_at dksX10_init_0 0 rfl rfl)
theorem dX10_init_1 : decode cX10_init 1 = .ok (.invokespecial 1, 3) := dk_183 0 1 (dk_at dksX10_init_0 1 rfl rfl)
theorem dX10_init_4 : decode cX10_init 4 = .ok (.aload_n 0, 1) := dk_42 (dk_at dksX10_init_0 4 rfl rfl)
theorem dX10_init_5 : decode cX10_init 5 = .ok (.aload_n 1, 1) := dk_43 (dk_at dksX10_init_0 5 rfl rfl)
theorem dX10_init_6 : decode cX10_init 6 = .ok (.putfield 7, 3) := dk_181 0 7 (dk_at dksX10_init_0 6 rfl rfl)
theorem dX10_init_9 : decode cX10_init 9 = .ok (.return_, 1) := dk_177 (dk_at dksX10_init_0 9 rfl rfl)
def dkwX10_is_0 : List UInt8 := [42, 180, 0, 7, 43, 185, 0, 13, 2, 0, 154, 0, 7, 4, 167, 0, 4, 3, 172]
abbrev dktX10_is_0 : List UInt8 := dkwX10_is_0 ++ []
theorem dksX10_is_0 : cX10_is.data.toList.drop 0 = dktX10_is_0 := by decide +kernel
theorem dX10_is_0 : decode cX10_is 0 = .ok (.aload_n 0, 1) := dk_42 (dk_at dksX10_is_0 0 rfl rfl)
theorem dX10_is_1 : decode cX10_is 1 = .ok (.getfield 7, 3) := dk_180 0 7 (dk_at dksX10_is_0 1 rfl rfl)
theorem dX10_is_4 : decode cX10_is 4 = .ok (.aload_n 1, 1) := dk_43 (dk_at dksX10_is_0 4 rfl rfl)
theorem dX10_is_5 : decode cX10_is 5 = .ok (.invokeinterface 13 2, 5) := by decide +kernel
theorem dX10_is_10 : decode cX10_is 10 = .ok (.ifCond .ne 7, 3) := dk_154 0 7 (dk_at dksX10_is_0 10 rfl rfl)
theorem dX10_is_13 : decode cX10_is 13 = .ok (.iconst 1, 1) := dk_4 (dk_at dksX10_is_0 13 rfl rfl)
theorem dX10_is_14 : decode cX10_is 14 = .ok (.goto 4, 3) := dk_167 0 4 (dk_at dksX10_is_0 14 rfl rfl)
theorem dX10_is_17 : decode cX10_is 17 = .ok (.iconst 0, 1) := dk_3 (dk_at dksX10_is_0 17 rfl rfl)
theorem dX10_is_18 : decode cX10_is 18 = .ok (.ireturn, 1) := dk_172 (dk_at dksX10_is_0 18 rfl rfl)
def dkwX11_init_0 : List UInt8 := [42, 183, 0, 1, 42, 27, 181, 0, 7, 42, 44, 181, 0, 13, 42, 45, 181, 0, 17, 177]
abbrev dktX11_init_0 : List UInt8 := dkwX11_init_0 ++ []
theorem dksX11_init_0 : cX11_init.data.toList.drop 0 = dktX11_init_0 := by decide +kernel
theorem dX11_init_0 : decode cX11_init 0 = .ok (.aload_n 0, 1) := dk_42 (dk_at dksX11_init_0 0 rfl rfl)
theorem dX11_init_1 : decode cX11_init 1 = .ok (.invokespecial 1, 3) := dk_183 0 1 (dk_at dksX11_init_0 1 rfl rfl)
theorem dX11_init_4 : decode cX11_init 4 = .ok (.aload_n 0, 1) := dk_42 (dk_at dksX11_init_0 4 rfl rfl)
theorem dX11_init_5 : decode cX11_init 5 = .ok (.iload_n 1, 1) := dk_27 (dk_at dksX11_init_0 5 rfl rfl)
theorem dX11_init_6 : decode cX11_init 6 = .ok (.putfield 7, 3) := dk_181 0 7 (dk_at dksX11_init_0 6 rfl rfl)
theorem dX11_init_9 : decode cX11_init 9 = .ok (.aload_n 0, 1) := dk_42 (dk_at dksX11_init_0 9 rfl rfl)
theorem dX11_init_10 : decode cX11_init 10 = .ok (.aload_n 2, 1) := dk_44 (dk_at dksX11_init_0 10 rfl rfl)
theorem dX11_init_11 : decode cX11_init 11 = .ok (.putfield 13, 3) := dk_181 0 13 (dk_at dksX11_init_0 11 rfl rfl)
theorem dX11_init_14 : decode cX11_init 14 = .ok (.aload_n 0, 1) := dk_42 (dk_at dksX11_init_0 14 rfl rfl)
theorem dX11_init_15 : decode cX11_init 15 = .ok (.aload_n 3, 1) := dk_45 (dk_at dksX11_init_0 15 rfl rfl)
theorem dX11_init_16 : decode cX11_init 16 = .ok (.putfield 17, 3) := dk_181 0 17 (dk_at dksX11_init_0 16 rfl rfl)
theorem dX11_init_19 : decode cX11_init 19 = .ok (.return_, 1) := dk_177 (dk_at dksX11_init_0 19 rfl rfl)
def dkwX11_is_5 : List UInt8 := [32, 9, 148, 157, 0, 7, 4, 167, 0, 4, 3, 172, 32, 9, 148, 155, 0, 7, 4, 167, 0, 4, 3, 172]
abbrev dktX11_is_5 : List UInt8 := dkwX11_is_5 ++ []
def dkwX11_is_4 : List UInt8 := [32, 9, 148, 154, 0, 7, 4, 167, 0, 4, 3, 172, 32, 9, 148, 153, 0, 7, 4, 167, 0, 4, 3, 172]
abbrev dktX11_is_4 : List UInt8 := dkwX11_is_4 ++ dktX11_is_5
def dkwX11_is_3 : List UInt8 := [32, 9, 148, 156, 0, 7, 4, 167, 0, 4, 3, 172, 32, 9, 148, 158, 0, 7, 4, 167, 0, 4, 3, 172]
abbrev dktX11_is_3 : List UInt8 := dkwX11_is_3 ++ dktX11_is_4
def dkwX11_is_2 : List UInt8 := [171, 0, 0, 0, 0, 110, 0, 0, 0, 5, 0, 0, 0, 35, 0, 0, 0, 86, 0, 0, 0, 60, 0, 0, 0, 50, 0, 0, 0, 61, 0, 0, 0, 74, 0, 0, 0, 62, 0, 0, 0, 62, 0, 0, 1, 47, 0, 0, 0, 98]
abbrev dktX11_is_2 : List UInt8 := dkwX11_is_2 ++ dktX11_is_3
def dkwX11_is_1 : List UInt8 := [180, 0, 7]
abbrev dktX11_is_1 : List UInt8 := dkwX11_is_1 ++ dktX11_is_2
def dkwX11_is_0 : List UInt8 := [42, 180, 0, 13, 43, 185, 0, 20, 2, 0, 42, 180, 0, 17, 43, 185, 0, 20, 2, 0, 101, 65, 42]
abbrev dktX11_is_0 : List UInt8 := dkwX11_is_0 ++ dktX11_is_1
theorem dksX11_is_0 : cX11_is.data.toList.drop 0 = dktX11_is_0 := by decide +kernel
theorem dksX11_is_1 : cX11_is.data.toList.drop 23 = dktX11_is_1 := dk_seg dksX11_is_0 23 rfl rfl
theorem dksX11_is_2 : cX11_is.data.toList.drop 26 = dktX11_is_2 := dk_seg dksX11_is_1 3 rfl rfl
theorem dksX11_is_3 : cX11_is.data.toList.drop 76 = dktX11_is_3 := dk_seg dksX11_is_2 50 rfl rfl
theorem dksX11_is_4 : cX11_is.data.toList.drop 100 = dktX11_is_4 := dk_seg dksX11_is_3 24 rfl rfl
theorem dksX11_is_5 : cX11_is.data.toList.drop 124 = dktX11_is_5 := dk_seg dksX11_is_4 24 rfl rfl
theorem dX11_is_0 : decode cX11_is 0 = .ok (.aload_n 0, 1) := dk_42 (dk_at dksX11_is_0 0 rfl rfl)
theorem dX11_is_1 : decode cX11_is 1 = .ok (.getfield 13, 3) := dk_180 0 13 (dk_at dksX11_is_0 1 rfl rfl)
theorem dX11_is_4 : decode cX11_is 4 = .ok (.aload_n 1, 1) := dk_43 (dk_at dksX11_is_0 4 rfl rfl)
theorem dX11_is_5 : decode cX11_is 5 = .ok (.invokeinterface 20 2, 5) := by decide +kernel
theorem dX11_is_10 : decode cX11_is 10 = .ok (.aload_n 0, 1) := dk_42 (dk_at dksX11_is_0 10 rfl rfl)
theorem dX11_is_11 : decode cX11_is 11 = .ok (.getfield 17, 3) := dk_180 0 17 (dk_at dksX11_is_0 11 rfl rfl)
theorem dX11_is_14 : decode cX11_is 14 = .ok (.aload_n 1, 1) := dk_43 (dk_at dksX11_is_0 14 rfl rfl)
theorem dX11_is_15 : decode cX11_is 15 = .ok (.invokeinterface 20 2, 5) := by decide +kernel
theorem dX11_is_20 : decode cX11_is 20 = .ok (.lsub, 1) := dk_101 (dk_at dksX11_is_0 20 rfl rfl)
theorem dX11_is_21 : decode cX11_is 21 = .ok (.lstore_n 2, 1) := dk_65 (dk_at dksX11_is_0 21 rfl rfl)
theorem dX11_is_22 : decode cX11_is 22 = .ok (.aload_n 0, 1) := dk_42 (dk_at dksX11_is_0 22 rfl rfl)
theorem dX11_is_23 : decode cX11_is 23 = .ok (.getfield 7, 3) := dk_180 0 7 (dk_at dksX11_is_1 0 rfl rfl)
theorem dX11_is_26 : decode cX11_is 26 = .ok (.lookupswitch 110 #[(35, 86), (60, 50), (61, 74), (62, 62), (303, 98)], 50) := by decide +kernel
theorem dX11_is_76 : decode cX11_is 76 = .ok (.lload_n 2, 1) := dk_32 (dk_at dksX11_is_3 0 rfl rfl)
theorem dX11_is_77 : decode cX11_is 77 = .ok (.lconst 0, 1) := dk_9 (dk_at dksX11_is_3 1 rfl rfl)
theorem dX11_is_78 : decode cX11_is 78 = .ok (.lcmp, 1) := dk_148 (dk_at dksX11_is_3 2 rfl rfl)
theorem dX11_is_79 : decode cX11_is 79 = .ok (.ifCond .ge 7, 3) := dk_156 0 7 (dk_at dksX11_is_3 3 rfl rfl)
theorem dX11_is_82 : decode cX11_is 82 = .ok (.iconst 1, 1) := dk_4 (dk_at dksX11_is_3 6 rfl rfl)
theorem dX11_is_83 : decode cX11_is 83 = .ok (.goto 4, 3) := dk_167 0 4 (dk_at dksX11_is_3 7 rfl rfl)
theorem dX11_is_86 : decode cX11_is 86 = .ok (.iconst 0, 1) := dk_3 (dk_at dksX11_is_3 10 rfl rfl)
theorem dX11_is_87 : decode cX11_is 87 = .ok (.ireturn, 1) := dk_172 (dk_at dksX11_is_3 11 rfl rfl)
theorem dX11_is_88 : decode cX11_is 88 = .ok (.lload_n 2, 1) := dk_32 (dk_at dksX11_is_3 12 rfl rfl)
theorem dX11_is_89 : decode cX11_is 89 = .ok (.lconst 0, 1) := dk_9 (dk_at dksX11_is_3 13 rfl rfl)
theorem dX11_is_90 : decode cX11_is 90 = .ok (.lcmp, 1) := dk_148 (dk_at dksX11_is_3 14 rfl rfl)
theorem dX11_is_91 : decode cX11_is 91 = .ok (.ifCond .le 7, 3) := dk_158 0 7 (dk_at dksX11_is_3 15 rfl rfl)
theorem dX11_is_94 : decode cX11_is 94 = .ok (.iconst 1, 1) := dk_4 (dk_at dksX11_is_3 18 rfl rfl)
theorem dX11_is_95 : decode cX11_is 95 = .ok (.goto 4, 3) := dk_167 0 4 (dk_at dksX11_is_3 19 rfl rfl)
theorem dX11_is_98 : decode cX11_is 98 = .ok (.iconst 0, 1) := dk_3 (dk_at dksX11_is_3 22 rfl rfl)
theorem dX11_is_99 : decode cX11_is 99 = .ok (.ireturn, 1) := dk_172 (dk_at dksX11_is_3 23 rfl rfl)
theorem dX11_is_100 : decode cX11_is 100 = .ok (.lload_n 2, 1) := dk_32 (dk_at dksX11_is_4 0 rfl rfl)
theorem dX11_is_101 : decode cX11_is 101 = .ok (.lconst 0, 1) := dk_9 (dk_at dksX11_is_4 1 rfl rfl)
theorem dX11_is_102 : decode cX11_is 102 = .ok (.lcmp, 1) := dk_148 (dk_at dksX11_is_4 2 rfl rfl)
theorem dX11_is_103 : decode cX11_is 103 = .ok (.ifCond .ne 7, 3) := dk_154 0 7 (dk_at dksX11_is_4 3 rfl rfl)
theorem dX11_is_106 : decode cX11_is 106 = .ok (.iconst 1, 1) := dk_4 (dk_at dksX11_is_4 6 rfl rfl)
theorem dX11_is_107 : decode cX11_is 107 = .ok (.goto 4, 3) := dk_167 0 4 (dk_at dksX11_is_4 7 rfl rfl)
theorem dX11_is_110 : decode cX11_is 110 = .ok (.iconst 0, 1) := dk_3 (dk_at dksX11_is_4 10 rfl rfl)
theorem dX11_is_111 : decode cX11_is 111 = .ok (.ireturn, 1) := dk_172 (dk_at dksX11_is_4 11 rfl rfl)
theorem dX11_is_112 : decode cX11_is 112 = .ok (.lload_n 2, 1) := dk_32 (dk_at dksX11_is_4 12 rfl rfl)
theorem dX11_is_113 : decode cX11_is 113 = .ok (.lconst 0, 1) := dk_9 (dk_at dksX11_is_4 13 rfl rfl)
theorem dX11_is_114 : decode cX11_is 114 = .ok (.lcmp, 1) := dk_148 (dk_at dksX11_is_4 14 rfl rfl)
theorem dX11_is_115 : decode cX11_is 115 = .ok (.ifCond .eq 7, 3) := dk_153 0 7 (dk_at dksX11_is_4 15 rfl rfl)
theorem dX11_is_118 : decode cX11_is 118 = .ok (.iconst 1, 1) := dk_4 (dk_at dksX11_is_4 18 rfl rfl)
theorem dX11_is_119 : decode cX11_is 119 = .ok (.goto 4, 3) := dk_167 0 4 (dk_at dksX11_is_4 19 rfl rfl)
theorem dX11_is_122 : decode cX11_is 122 = .ok (.iconst 0, 1) := dk_3 (dk_at dksX11_is_4 22 rfl rfl)
theorem dX11_is_123 : decode cX11_is 123 = .ok (.ireturn, 1) := dk_172 (dk_at dksX11_is_4 23 rfl rfl)
theorem dX11_is_124 : decode cX11_is 124 = .ok (.lload_n 2, 1) := dk_32 (dk_at dksX11_is_5 0 rfl rfl)
theorem dX11_is_125 : decode cX11_is 125 = .ok (.lconst 0, 1) := dk_9 (dk_at dksX11_is_5 1 rfl rfl)
theorem dX11_is_126 : decode cX11_is 126 = .ok (.lcmp, 1) := dk_148 (dk_at dksX11_is_5 2 rfl rfl)
theorem dX11_is_127 : decode cX11_is 127 = .ok (.ifCond .gt 7, 3) := dk_157 0 7 (dk_at dksX11_is_5 3 rfl rfl)
theorem dX11_is_130 : decode cX11_is 130 = .ok (.iconst 1, 1) := dk_4 (dk_at dksX11_is_5 6 rfl rfl)
theorem dX11_is_131 : decode cX11_is 131 = .ok (.goto 4, 3) := dk_167 0 4 (dk_at dksX11_is_5 7 rfl rfl)
theorem dX11_is_134 : decode cX11_is 134 = .ok (.iconst 0, 1) := dk_3 (dk_at dksX11_is_5 10 rfl rfl)
theorem dX11_is_135 : decode cX11_is 135 = .ok (.ireturn, 1) := dk_172 (dk_at dksX11_is_5 11 rfl rfl)
theorem dX11_is_136 : decode cX11_is 136 = .ok (.lload_n 2, 1) := dk_32 (dk_at dksX11_is_5 12 rfl rfl)
theorem dX11_is_137 : decode cX11_is 137 = .ok (.lconst 0, 1) := dk_9 (dk_at dksX11_is_5 13 rfl rfl)
theorem dX11_is_138 : decode cX11_is 138 = .ok (.lcmp, 1) := dk_148 (dk_at dksX11_is_5 14 rfl rfl)
theorem dX11_is_139 : decode cX11_is 139 = .ok (.ifCond .lt 7, 3) := dk_155 0 7 (dk_at dksX11_is_5 15 rfl rfl)
theorem dX11_is_142 : decode cX11_is 142 = .ok (.iconst 1, 1) := dk_4 (dk_at dksX11_is_5 18 rfl rfl)
theorem dX11_is_143 : decode cX11_is 143 = .ok (.goto 4, 3) := dk_167 0 4 (dk_at dksX11_is_5 19 rfl rfl)
theorem dX11_is_146 : decode cX11_is 146 = .ok (.iconst 0, 1) := dk_3 (dk_at dksX11_is_5 22 rfl rfl)
theorem dX11_is_147 : decode cX11_is 147 = .ok (.ireturn, 1) := dk_172 (dk_at dksX11_is_5 23 rfl rfl)
def dkwX12_init_0 : List UInt8 := [42, 183, 0, 1, 42, 27, 181, 0, 7, 42, 44, 181, 0, 13, 177]
abbrev dktX12_init_0 : List UInt8 := dkwX12_init_0 ++ []
theorem dksX12_init_0 : cX12_init.data.toList.drop 0 = dktX12_init_0 := by decide +kernel
theorem dX12_init_0 : decode cX12_init 0 = .ok (.aload_n 0, 1) := dk_42 (dk_at dksX12_init_0 0 rfl rfl)
theorem dX12_init_1 : decode cX12_init 1 = .ok (.invokespecial 1, 3) := dk_183 0 1 (dk_at dksX12_init_0 1 rfl rfl)
theorem dX12_init_4 : decode cX12_init 4 = .ok (.aload_n 0, 1) := dk_42 (dk_at dksX12_init_0 4 rfl rfl)
theorem dX12_init_5 : decode cX12_init 5 = .ok (.iload_n 1, 1) := dk_27 (dk_at dksX12_init_0 5 rfl rfl)
theorem dX12_init_6 : decode cX12_init 6 = .ok (.putfield 7, 3) := dk_181 0 7 (dk_at dksX12_init_0 6 rfl rfl)
theorem dX12_init_9 : decode cX12_init 9 = .ok (.aload_n 0, 1) := dk_42 (dk_at dksX12_init_0 9 rfl rfl)
theorem dX12_init_10 : decode cX12_init 10 = .ok (.aload_n 2, 1) := dk_44 (dk_at dksX12_init_0 10 rfl rfl)
theorem dX12_init_11 : decode cX12_init 11 = .ok (.putfield 13, 3) := dk_181 0 13 (dk_at dksX12_init_0 11 rfl rfl)
theorem dX12_init_14 : decode cX12_init 14 = .ok (.return_, 1) := dk_177 (dk_at dksX12_init_0 14 rfl rfl)
def dkwX12_is_3 : List UInt8 := [167, 0, 16, 3, 167, 0, 12, 28, 158, 0, 7, 4, 167, 0, 4, 3, 172]
abbrev dktX12_is_3 : List UInt8 := dkwX12_is_3 ++ []
def dkwX12_is_2 : List UInt8 := [167, 255, 214, 42, 180, 0, 7, 153, 0, 22, 28, 42, 180, 0, 13, 182, 0, 17, 160, 0, 7, 4]
abbrev dktX12_is_2 : List UInt8 := dkwX12_is_2 ++ dktX12_is_3
def dkwX12_is_1 : List UInt8 := [192, 0, 27, 43, 185, 0, 29, 2, 0, 153, 0, 7, 4, 167, 0, 4, 3, 96, 61, 132, 3, 1]
abbrev dktX12_is_1 : List UInt8 := dkwX12_is_1 ++ dktX12_is_2
def dkwX12_is_0 : List UInt8 := [3, 61, 3, 62, 29, 42, 180, 0, 13, 182, 0, 17, 162, 0, 37, 28, 42, 180, 0, 13, 29, 182, 0, 23]
abbrev dktX12_is_0 : List UInt8 := dkwX12_is_0 ++ dktX12_is_1
theorem dksX12_is_0 : cX12_is.data.toList.drop 0 = dktX12_is_0 := by decide +kernel
theorem dksX12_is_1 : cX12_is.data.toList.drop 24 = dktX12_is_1 := dk_seg dksX12_is_0 24 rfl rfl
theorem dksX12_is_2 : cX12_is.data.toList.drop 46 = dktX12_is_2 := dk_seg dksX12_is_1 22 rfl rfl
theorem dksX12_is_3 : cX12_is.data.toList.drop 68 = dktX12_is_3 := dk_seg dksX12_is_2 22 rfl rfl
theorem dX12_is_0 : decode cX12_is 0 = .ok (.iconst 0, 1) := dk_3 (dk_at dksX12_is_0 0 rfl rfl)
theorem dX12_is_1 : decode cX12_is 1 = .ok (.istore_n 2, 1) := dk_61 (dk_at dksX12_is_0 1 rfl rfl)
theorem dX12_is_2 : decode cX12_is 2 = .ok (.iconst 0, 1) := dk_3 (dk_at dksX12_is_0 2 rfl rfl)
theorem dX12_is_3 : decode cX12_is 3 = .ok (.istore_n 3, 1) := dk_62 (dk_at dksX12_is_0 3 rfl rfl)
theorem dX12_is_4 : decode cX12_is 4 = .ok (.iload_n 3, 1) := dk_29 (dk_at dksX12_is_0 4 rfl rfl)
theorem dX12_is_5 : decode cX12_is 5 = .ok (.aload_n 0, 1) := dk_42 (dk_at dksX12_is_0 5 rfl rfl)
theorem dX12_is_6 : decode cX12_is 6 = .ok (.getfield 13, 3) := dk_180 0 13 (dk_at dksX12_is_0 6 rfl rfl)
theorem dX12_is_9 : decode cX12_is 9 = .ok (.invokevirtual 17, 3) := dk_182 0 17 (dk_at dksX12_is_0 9 rfl rfl)
theorem dX12_is_12 : decode cX12_is 12 = .ok (.if_icmp .ge 37, 3) := dk_162 0 37 (dk_at dksX12_is_0 12 rfl rfl)
theorem dX12_is_15 : decode cX12_is 15 = .ok (.iload_n 2, 1) := dk_28 (dk_at dksX12_is_0 15 rfl rfl)
theorem dX12_is_16 : decode cX12_is 16 = .ok (.aload_n 0, 1) := dk_42 (dk_at dksX12_is_0 16 rfl rfl)
theorem dX12_is_17 : decode cX12_is 17 = .ok (.getfield 13, 3) := dk_180 0 13 (dk_at dksX12_is_0 17 rfl rfl)
theorem dX12_is_20 : decode cX12_is 20 = .ok (.iload_n 3, 1) := dk_29 (dk_at dksX12_is_0 20 rfl rfl)
theorem dX12_is_21 : decode cX12_is 21 = .ok (.invokevirtual 23, 3) := dk_182 0 23 (dk_at dksX12_is_0 21 rfl rfl)
theorem dX12_is_24 : decode cX12_is 24 = .ok (.checkcast 27, 3) := dk_192 0 27 (dk_at dksX12_is_1 0 rfl rfl)
theorem dX12_is_27 : decode cX12_is 27 = .ok (.aload_n 1, 1) := dk_43 (dk_at dksX12_is_1 3 rfl rfl)
theorem dX12_is_28 : decode cX12_is 28 = .ok (.invokeinterface 29 2, 5) := by decide +kernel
theorem dX12_is_33 : decode cX12_is 33 = .ok (.ifCond .eq 7, 3) := dk_153 0 7 (dk_at dksX12_is_1 9 rfl rfl)
theorem dX12_is_36 : decode cX12_is 36 = .ok (.iconst 1, 1) := dk_4 (dk_at dksX12_is_1 12 rfl rfl)
theorem dX12_is_37 : decode cX12_is 37 = .ok (.goto 4, 3) := dk_167 0 4 (dk_at dksX12_is_1 13 rfl rfl)
theorem dX12_is_40 : decode cX12_is 40 = .ok (.iconst 0, 1) := dk_3 (dk_at dksX12_is_1 16 rfl rfl)
theorem dX12_is_41 : decode cX12_is 41 = .ok (.iadd, 1) := dk_96 (dk_at dksX12_is_1 17 rfl rfl)
theorem dX12_is_42 : decode cX12_is 42 = .ok (.istore_n 2, 1) := dk_61 (dk_at dksX12_is_1 18 rfl rfl)
theorem dX12_is_43 : decode cX12_is 43 = .ok (.iinc 3 1, 3) := dk_132 3 1 (dk_at dksX12_is_1 19 rfl rfl)
theorem dX12_is_46 : decode cX12_is 46 = .ok (.goto (-42), 3) := dk_167 255 214 (dk_at dksX12_is_2 0 rfl rfl)
theorem dX12_is_49 : decode cX12_is 49 = .ok (.aload_n 0, 1) := dk_42 (dk_at dksX12_is_2 3 rfl rfl)
theorem dX12_is_50 : decode cX12_is 50 = .ok (.getfield 7, 3) := dk_180 0 7 (dk_at dksX12_is_2 4 rfl rfl)
theorem dX12_is_53 : decode cX12_is 53 = .ok (.ifCond .eq 22, 3) := dk_153 0 22 (dk_at dksX12_is_2 7 rfl rfl)
theorem dX12_is_56 : decode cX12_is 56 = .ok (.iload_n 2, 1) := dk_28 (dk_at dksX12_is_2 10 rfl rfl)
theorem dX12_is_57 : decode cX12_is 57 = .ok (.aload_n 0, 1) := dk_42 (dk_at dksX12_is_2 11 rfl rfl)
theorem dX12_is_58 : decode cX12_is 58 = .ok (.getfield 13, 3) := dk_180 0 13 (dk_at dksX12_is_2 12 rfl rfl)
theorem dX12_is_61 : decode cX12_is 61 = .ok (.invokevirtual 17, 3) := dk_182 0 17 (dk_at dksX12_is_2 15 rfl rfl)
theorem dX12_is_64 : decode cX12_is 64 = .ok (.if_icmp .ne 7, 3) := dk_160 0 7 (dk_at dksX12_is_2 18 rfl rfl)
theorem dX12_is_67 : decode cX12_is 67 = .ok (.iconst 1, 1) := dk_4 (dk_at dksX12_is_2 21 rfl rfl)
theorem dX12_is_68 : decode cX12_is 68 = .ok (.goto 16, 3) := dk_167 0 16 (dk_at dksX12_is_3 0 rfl rfl)
theorem dX12_is_71 : decode cX12_is 71 = .ok (.iconst 0, 1) := dk_3 (dk_at dksX12_is_3 3 rfl rfl)
theorem dX12_is_72 : decode cX12_is 72 = .ok (.goto 12, 3) := dk_167 0 12 (dk_at dksX12_is_3 4 rfl rfl)
theorem dX12_is_75 : decode cX12_is 75 = .ok (.iload_n 2, 1) := dk_28 (dk_at dksX12_is_3 7 rfl rfl)
theorem dX12_is_76 : decode cX12_is 76 = .ok (.ifCond .le 7, 3) := dk_158 0 7 (dk_at dksX12_is_3 8 rfl rfl)
theorem dX12_is_79 : decode cX12_is 79 = .ok (.iconst 1, 1) := dk_4 (dk_at dksX12_is_3 11 rfl rfl)
theorem dX12_is_80 : decode cX12_is 80 = .ok (.goto 4, 3) := dk_167 0 4 (dk_at dksX12_is_3 12 rfl rfl)
theorem dX12_is_83 : decode cX12_is 83 = .ok (.iconst 0, 1) := dk_3 (dk_at dksX12_is_3 15 rfl rfl)
theorem dX12_is_84 : decode cX12_is 84 = .ok (.ireturn, 1) := dk_172 (dk_at dksX12_is_3 16 rfl rfl)
def dkwX13_init_1 : List UInt8 := [181, 0, 19, 42, 21, 5, 181, 0, 22, 177]
abbrev dktX13_init_1 : List UInt8 := dkwX13_init_1 ++ []
def dkwX13_init_0 : List UInt8 := [42, 183, 0, 1, 42, 27, 181, 0, 7, 42, 28, 181, 0, 13, 42, 29, 181, 0, 16, 42, 21, 4]
abbrev dktX13_init_0 : List UInt8 := dkwX13_init_0 ++ dktX13_init_1
theorem dksX13_init_0 : cX13_init.data.toList.drop 0 = dktX13_init_0 := by decide +kernel
theorem dksX13_init_1 : cX13_init.data.toList.drop 22 = dktX13_init_1 := dk_seg dksX13_init_0 22 rfl rfl
theorem dX13_init_0 : decode cX13_init 0 = .ok (.aload_n 0, 1) := dk_42 (dk_at dksX13_init_0 0 rfl rfl)
theorem dX13_init_1 : decode cX13_init 1 = .ok (.invokespecial 1, 3) := dk_183 0 1 (dk_at dksX13_init_0 1 rfl rfl)
theorem dX13_init_4 : decode cX13_init 4 = .ok (.aload_n 0, 1) := dk_42 (dk_at dksX13_init_0 4 rfl rfl)
theorem dX13_init_5 : decode cX13_init 5 = .ok (.iload_n 1, 1) := dk_27 (dk_at dksX13_init_0 5 rfl rfl)
theorem dX13_init_6 : decode cX13_init 6 = .ok (.putfield 7, 3) := dk_181 0 7 (dk_at dksX13_init_0 6 rfl rfl)
theorem dX13_init_9 : decode cX13_init 9 = .ok (.aload_n 0, 1) := dk_42 (dk_at dksX13_init_0 9 rfl rfl)
theorem dX13_init_10 : decode cX13_init 10 = .ok (.iload_n 2, 1) := dk_28 (dk_at dksX13_init_0 10 rfl rfl)
theorem dX13_init_11 : decode cX13_init 11 = .ok (.putfield 13, 3) := dk_181 0 13 (dk_at dksX13_init_0 11 rfl rfl)
theorem dX13_init_14 : decode cX13_init 14 = .ok (.aload_n 0, 1) := dk_42 (dk_at dksX13_init_0 14 rfl rfl)
theorem dX13_init_15 : decode cX13_init 15 = .ok (.iload_n 3, 1) := dk_29 (dk_at dksX13_init_0 15 rfl rfl)
theorem dX13_init_16 : decode cX13_init 16 = .ok (.putfield 16, 3) := dk_181 0 16 (dk_at dksX13_init_0 16 rfl rfl)
theorem dX13_init_19 : decode cX13_init 19 = .ok (.aload_n 0, 1) := dk_42 (dk_at dksX13_init_0 19 rfl rfl)
theorem dX13_init_20 : decode cX13_init 20 = .ok (.iload 4, 2) := dk_21 4 (dk_at dksX13_init_0 20 rfl rfl)
theorem dX13_init_22 : decode cX13_init 22 = .ok (.putfield 19, 3) := dk_181 0 19 (dk_at dksX13_init_1 0 rfl rfl)
theorem dX13_init_25 : decode cX13_init 25 = .ok (.aload_n 0, 1) := dk_42 (dk_at dksX13_init_1 3 rfl rfl)
theorem dX13_init_26 : decode cX13_init 26 = .ok (.iload 5, 2) := dk_21 5 (dk_at dksX13_init_1 4 rfl rfl)
theorem dX13_init_28 : decode cX13_init 28 = .ok (.putfield 22, 3) := dk_181 0 22 (dk_at dksX13_init_1 6 rfl rfl)
theorem dX13_init_31 : decode cX13_init 31 = .ok (.return_, 1) := dk_177 (dk_at dksX13_init_1 9 rfl rfl)
theorem dX13_sort_0 : decode cX13_sort 0 = .ok (.aload_n 0, 1) := by decide +kernel
theorem dX13_sort_1 : decode cX13_sort 1 = .ok (.getfield 7, 3) := by decide +kernel
theorem dX13_sort_4 : decode cX13_sort 4 = .ok (.ireturn, 1) := by decide +kernel
theorem dX13_a_0 : decode cX13_a 0 = .ok (.aload_n 0, 1) := by decide +kernel
theorem dX13_a_1 : decode cX13_a 1 = .ok (.getfield 13, 3) := by decide +kernel
theorem dX13_a_4 : decode cX13_a 4 = .ok (.ireturn, 1) := by decide +kernel
theorem dX13_b_0 : decode cX13_b 0 = .ok (.aload_n 0, 1) := by decide +kernel
theorem dX13_b_1 : decode cX13_b 1 = .ok (.getfield 16, 3) := by decide +kernel
theorem dX13_b_4 : decode cX13_b 4 = .ok (.ireturn, 1) := by decide +kernel
theorem dX13_c_0 : decode cX13_c 0 = .ok (.aload_n 0, 1) := by decide +kernel
theorem dX13_c_1 : decode cX13_c 1 = .ok (.getfield 19, 3) := by decide +kernel
theorem dX13_c_4 : decode cX13_c 4 = .ok (.ireturn, 1) := by decide +kernel
theorem dX13_number_0 : decode cX13_number 0 = .ok (.aload_n 0, 1) := by decide +kernel
theorem dX13_number_1 : decode cX13_number 1 = .ok (.getfield 22, 3) := by decide +kernel
theorem dX13_number_4 : decode cX13_number 4 = .ok (.ireturn, 1) := by decide +kernel
theorem dJ0_init_0 : decode cJ0_init 0 = .ok (.aload_n 0, 1) := by decide +kernel
theorem dJ0_init_1 : decode cJ0_init 1 = .ok (.invokespecial 1, 3) := by decide +kernel
theorem dJ0_init_4 : decode cJ0_init 4 = .ok (.return_, 1) := by decide +kernel
