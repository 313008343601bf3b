set_option maxRecDepth 100000
def dkwX8_init_4 : List UInt8 := [42, 16, 30, 188, 10, 181, 0, 44, 42, 16, 90, 188, 10, 181, 0, 47, 42, 182, 0, 50, 177]
abbrev dktX8_init_4 : List UInt8 := dkwX8_init_4 ++ []
def dkwX8_init_3 : List UInt8 := [181, 0, 31, 42, 2, 181, 0, 34, 42, 17, 1, 144, 188, 10, 181, 0, 38, 42, 7, 188, 10, 181, 0, 41]
abbrev dktX8_init_3 : List UInt8 := dkwX8_init_3 ++ dktX8_init_4
def dkwX8_init_2 : List UInt8 := [181, 0, 22, 42, 6, 188, 10, 181, 0, 25, 42, 6, 188, 10, 181, 0, 28, 42, 16, 60, 188, 10]
abbrev dktX8_init_2 : List UInt8 := dkwX8_init_2 ++ dktX8_init_3
def dkwX8_init_1 : List UInt8 := [17, 1, 177, 188, 10, 181, 0, 16, 42, 17, 1, 177, 188, 10, 181, 0, 19, 42, 17, 13, 136, 188, 10]
abbrev dktX8_init_1 : List UInt8 := dkwX8_init_1 ++ dktX8_init_2
def dkwX8_init_0 : List UInt8 := [42, 183, 0, 3, 42, 17, 1, 177, 188, 10, 181, 0, 9, 42, 17, 1, 177, 188, 10, 181, 0, 13, 42]
abbrev dktX8_init_0 : List UInt8 := dkwX8_init_0 ++ dktX8_init_1
theorem dksX8_init_0 : cX8_init.data.toList.drop 0 = dktX8_init_0 := by decide +kernel
theorem dksX8_init_1 : cX8_init.data.toList.drop 23 = dktX8_init_1 := dk_seg dksX8_init_0 23 rfl rfl
theorem dksX8_init_2 : cX8_init.data.toList.drop 46 = dktX8_init_2 := dk_seg dksX8_init_1 23 rfl rfl
theorem dksX8_init_3 : cX8_init.data.toList.drop 68 = dktX8_init_3 := dk_seg dksX8_init_2 22 rfl rfl
theorem dksX8_init_4 : cX8_init.data.toList.drop 92 = dktX8_init_4 := dk_seg dksX8_init_3 24 rfl rfl
theorem dX8_init_0 : decode cX8_init 0 = .ok (.aload_n 0, 1) := dk_42 (dk_at dksX8_init_0 0 rfl rfl)
theorem dX8_init_1 : decode cX8_init 1 = .ok (.invokespecial 3, 3) := dk_183 0 3 (dk_at dksX8_init_0 1 rfl rfl)
theorem dX8_init_4 : decode cX8_init 4 = .ok (.aload_n 0, 1) := dk_42 (dk_at dksX8_init_0 4 rfl rfl)
theorem dX8_init_5 : decode cX8_init 5 = .ok (.sipush 433, 3) := dk_17 1 177 (dk_at dksX8_init_0 5 rfl rfl)
theorem dX8_init_8 : decode cX8_init 8 = .ok (.newarray .int, 2) := dk_188_10 (dk_at dksX8_init_0 8 rfl rfl)
theorem dX8_init_10 : decode cX8_init 10 = .ok (.putfield 9, 3) := dk_181 0 9 (dk_at dksX8_init_0 10 rfl rfl)
theorem dX8_init_13 : decode cX8_init 13 = .ok (.aload_n 0, 1) := dk_42 (dk_at dksX8_init_0 13 rfl rfl)
theorem dX8_init_14 : decode cX8_init 14 = .ok (.sipush 433, 3) := dk_17 1 177 (dk_at dksX8_init_0 14 rfl rfl)
theorem dX8_init_17 : decode cX8_init 17 = .ok (.newarray .int, 2) := dk_188_10 (dk_at dksX8_init_0 17 rfl rfl)
theorem dX8_init_19 : decode cX8_init 19 = .ok (.putfield 13, 3) := dk_181 0 13 (dk_at dksX8_init_0 19 rfl rfl)
theorem dX8_init_22 : decode cX8_init 22 = .ok (.aload_n 0, 1) := dk_42 (dk_at dksX8_init_0 22 rfl rfl)
theorem dX8_init_23 : decode cX8_init 23 = .ok (.sipush 433, 3) := dk_17 1 177 (dk_at dksX8_init_1 0 rfl rfl)
theorem dX8_init_26 : decode cX8_init 26 = .ok (.newarray .int, 2) := dk_188_10 (dk_at dksX8_init_1 3 rfl rfl)
theorem dX8_init_28 : decode cX8_init 28 = .ok (.putfield 16, 3) := dk_181 0 16 (dk_at dksX8_init_1 5 rfl rfl)
theorem dX8_init_31 : decode cX8_init 31 = .ok (.aload_n 0, 1) := dk_42 (dk_at dksX8_init_1 8 rfl rfl)
theorem dX8_init_32 : decode cX8_init 32 = .ok (.sipush 433, 3) := dk_17 1 177 (dk_at dksX8_init_1 9 rfl rfl)
theorem dX8_init_35 : decode cX8_init 35 = .ok (.newarray .int, 2) := dk_188_10 (dk_at dksX8_init_1 12 rfl rfl)
theorem dX8_init_37 : decode cX8_init 37 = .ok (.putfield 19, 3) := dk_181 0 19 (dk_at dksX8_init_1 14 rfl rfl)
theorem dX8_init_40 : decode cX8_init 40 = .ok (.aload_n 0, 1) := dk_42 (dk_at dksX8_init_1 17 rfl rfl)
theorem dX8_init_41 : decode cX8_init 41 = .ok (.sipush 3464, 3) := dk_17 13 136 (dk_at dksX8_init_1 18 rfl rfl)
theorem dX8_init_44 : decode cX8_init 44 = .ok (.newarray .int, 2) := dk_188_10 (dk_at dksX8_init_1 21 rfl rfl)
theorem dX8_init_46 : decode cX8_init 46 = .ok (.putfield 22, 3) := dk_181 0 22 (dk_at dksX8_init_2 0 rfl rfl)
theorem dX8_init_49 : decode cX8_init 49 = .ok (.aload_n 0, 1) := dk_42 (dk_at dksX8_init_2 3 rfl rfl)
theorem dX8_init_50 : decode cX8_init 50 = .ok (.iconst 3, 1) := dk_6 (dk_at dksX8_init_2 4 rfl rfl)
theorem dX8_init_51 : decode cX8_init 51 = .ok (.newarray .int, 2) := dk_188_10 (dk_at dksX8_init_2 5 rfl rfl)
theorem dX8_init_53 : decode cX8_init 53 = .ok (.putfield 25, 3) := dk_181 0 25 (dk_at dksX8_init_2 7 rfl rfl)
theorem dX8_init_56 : decode cX8_init 56 = .ok (.aload_n 0, 1) := dk_42 (dk_at dksX8_init_2 10 rfl rfl)
theorem dX8_init_57 : decode cX8_init 57 = .ok (.iconst 3, 1) := dk_6 (dk_at dksX8_init_2 11 rfl rfl)
theorem dX8_init_58 : decode cX8_init 58 = .ok (.newarray .int, 2) := dk_188_10 (dk_at dksX8_init_2 12 rfl rfl)
theorem dX8_init_60 : decode cX8_init 60 = .ok (.putfield 28, 3) := dk_181 0 28 (dk_at dksX8_init_2 14 rfl rfl)
theorem dX8_init_63 : decode cX8_init 63 = .ok (.aload_n 0, 1) := dk_42 (dk_at dksX8_init_2 17 rfl rfl)
theorem dX8_init_64 : decode cX8_init 64 = .ok (.bipush 60, 2) := dk_16 60 (dk_at dksX8_init_2 18 rfl rfl)
theorem dX8_init_66 : decode cX8_init 66 = .ok (.newarray .int, 2) := dk_188_10 (dk_at dksX8_init_2 20 rfl rfl)
theorem dX8_init_68 : decode cX8_init 68 = .ok (.putfield 31, 3) := dk_181 0 31 (dk_at dksX8_init_3 0 rfl rfl)
theorem dX8_init_71 : decode cX8_init 71 = .ok (.aload_n 0, 1) := dk_42 (dk_at dksX8_init_3 3 rfl rfl)
theorem dX8_init_72 : decode cX8_init 72 = .ok (.iconst (-1), 1) := dk_2 (dk_at dksX8_init_3 4 rfl rfl)
theorem dX8_init_73 : decode cX8_init 73 = .ok (.putfield 34, 3) := dk_181 0 34 (dk_at dksX8_init_3 5 rfl rfl)
theorem dX8_init_76 : decode cX8_init 76 = .ok (.aload_n 0, 1) := dk_42 (dk_at dksX8_init_3 8 rfl rfl)
theorem dX8_init_77 : decode cX8_init 77 = .ok (.sipush 400, 3) := dk_17 1 144 (dk_at dksX8_init_3 9 rfl rfl)
theorem dX8_init_80 : decode cX8_init 80 = .ok (.newarray .int, 2) := dk_188_10 (dk_at dksX8_init_3 12 rfl rfl)
theorem dX8_init_82 : decode cX8_init 82 = .ok (.putfield 38, 3) := dk_181 0 38 (dk_at dksX8_init_3 14 rfl rfl)
theorem dX8_init_85 : decode cX8_init 85 = .ok (.aload_n 0, 1) := dk_42 (dk_at dksX8_init_3 17 rfl rfl)
theorem dX8_init_86 : decode cX8_init 86 = .ok (.iconst 4, 1) := dk_7 (dk_at dksX8_init_3 18 rfl rfl)
theorem dX8_init_87 : decode cX8_init 87 = .ok (.newarray .int, 2) := dk_188_10 (dk_at dksX8_init_3 19 rfl rfl)
theorem dX8_init_89 : decode cX8_init 89 = .ok (.putfield 41, 3) := dk_181 0 41 (dk_at dksX8_init_3 21 rfl rfl)
theorem dX8_init_92 : decode cX8_init 92 = .ok (.aload_n 0, 1) := dk_42 (dk_at dksX8_init_4 0 rfl rfl)
theorem dX8_init_93 : decode cX8_init 93 = .ok (.bipush 30, 2) := dk_16 30 (dk_at dksX8_init_4 1 rfl rfl)
theorem dX8_init_95 : decode cX8_init 95 = .ok (.newarray .int, 2) := dk_188_10 (dk_at dksX8_init_4 3 rfl rfl)
theorem dX8_init_97 : decode cX8_init 97 = .ok (.putfield 44, 3) := dk_181 0 44 (dk_at dksX8_init_4 5 rfl rfl)
theorem dX8_init_100 : decode cX8_init 100 = .ok (.aload_n 0, 1) := dk_42 (dk_at dksX8_init_4 8 rfl rfl)
theorem dX8_init_101 : decode cX8_init 101 = .ok (.bipush 90, 2) := dk_16 90 (dk_at dksX8_init_4 9 rfl rfl)
theorem dX8_init_103 : decode cX8_init 103 = .ok (.newarray .int, 2) := dk_188_10 (dk_at dksX8_init_4 11 rfl rfl)
theorem dX8_init_105 : decode cX8_init 105 = .ok (.putfield 47, 3) := dk_181 0 47 (dk_at dksX8_init_4 13 rfl rfl)
theorem dX8_init_108 : decode cX8_init 108 = .ok (.aload_n 0, 1) := dk_42 (dk_at dksX8_init_4 16 rfl rfl)
theorem dX8_init_109 : decode cX8_init 109 = .ok (.invokevirtual 50, 3) := dk_182 0 50 (dk_at dksX8_init_4 17 rfl rfl)
theorem dX8_init_112 : decode cX8_init 112 = .ok (.return_, 1) := dk_177 (dk_at dksX8_init_4 20 rfl rfl)
def dkwX8_begins_5 : List UInt8 := [181, 0, 53, 177]
abbrev dktX8_begins_5 : List UInt8 := dkwX8_begins_5 ++ []
def dkwX8_begins_4 : List UInt8 := [6, 27, 104, 96, 5, 79, 132, 1, 1, 167, 255, 234, 42, 180, 0, 9, 17, 1, 171, 2, 79, 42, 3]
abbrev dktX8_begins_4 : List UInt8 := dkwX8_begins_4 ++ dktX8_begins_5
def dkwX8_begins_3 : List UInt8 := [16, 10, 79, 132, 1, 1, 167, 255, 232, 3, 60, 27, 16, 7, 162, 0, 22, 42, 180, 0, 9, 17, 1, 150]
abbrev dktX8_begins_3 : List UInt8 := dkwX8_begins_3 ++ dktX8_begins_4
def dkwX8_begins_2 : List UInt8 := [167, 255, 233, 3, 60, 27, 6, 162, 0, 25, 42, 180, 0, 9, 17, 1, 135, 8, 27, 104, 96, 4, 96]
abbrev dktX8_begins_2 : List UInt8 := dkwX8_begins_2 ++ dktX8_begins_3
def dkwX8_begins_1 : List UInt8 := [27, 5, 162, 0, 24, 42, 180, 0, 9, 17, 1, 127, 7, 27, 104, 96, 5, 96, 5, 79, 132, 1, 1]
abbrev dktX8_begins_1 : List UInt8 := dkwX8_begins_1 ++ dktX8_begins_2
def dkwX8_begins_0 : List UInt8 := [3, 60, 27, 17, 1, 177, 162, 0, 16, 42, 180, 0, 9, 27, 3, 79, 132, 1, 1, 167, 255, 239, 3, 60]
abbrev dktX8_begins_0 : List UInt8 := dkwX8_begins_0 ++ dktX8_begins_1
theorem dksX8_begins_0 : cX8_begins.data.toList.drop 0 = dktX8_begins_0 := by decide +kernel
theorem dksX8_begins_1 : cX8_begins.data.toList.drop 24 = dktX8_begins_1 := dk_seg dksX8_begins_0 24 rfl rfl
theorem dksX8_begins_2 : cX8_begins.data.toList.drop 47 = dktX8_begins_2 := dk_seg dksX8_begins_1 23 rfl rfl
theorem dksX8_begins_3 : cX8_begins.data.toList.drop 70 = dktX8_begins_3 := dk_seg dksX8_begins_2 23 rfl rfl
theorem dksX8_begins_4 : cX8_begins.data.toList.drop 94 = dktX8_begins_4 := dk_seg dksX8_begins_3 24 rfl rfl
theorem dksX8_begins_5 : cX8_begins.data.toList.drop 117 = dktX8_begins_5 := dk_seg dksX8_begins_4 23 rfl rfl
theorem dX8_begins_0 : decode cX8_begins 0 = .ok (.iconst 0, 1) := dk_3 (dk_at dksX8_begins_0 0 rfl rfl)
theorem dX8_begins_1 : decode cX8_begins 1 = .ok (.istore_n 1, 1) := dk_60 (dk_at dksX8_begins_0 1 rfl rfl)
theorem dX8_begins_2 : decode cX8_begins 2 = .ok (.iload_n 1, 1) := dk_27 (dk_at dksX8_begins_0 2 rfl rfl)
theorem dX8_begins_3 : decode cX8_begins 3 = .ok (.sipush 433, 3) := dk_17 1 177 (dk_at dksX8_begins_0 3 rfl rfl)
theorem dX8_begins_6 : decode cX8_begins 6 = .ok (.if_icmp .ge 16, 3) := dk_162 0 16 (dk_at dksX8_begins_0 6 rfl rfl)
theorem dX8_begins_9 : decode cX8_begins 9 = .ok (.aload_n 0, 1) := dk_42 (dk_at dksX8_begins_0 9 rfl rfl)
theorem dX8_begins_10 : decode cX8_begins 10 = .ok (.getfield 9, 3) := dk_180 0 9 (dk_at dksX8_begins_0 10 rfl rfl)
theorem dX8_begins_13 : decode cX8_begins 13 = .ok (.iload_n 1, 1) := dk_27 (dk_at dksX8_begins_0 13 rfl rfl)
theorem dX8_begins_14 : decode cX8_begins 14 = .ok (.iconst 0, 1) := dk_3 (dk_at dksX8_begins_0 14 rfl rfl)
theorem dX8_begins_15 : decode cX8_begins 15 = .ok (.iastore, 1) := dk_79 (dk_at dksX8_begins_0 15 rfl rfl)
theorem dX8_begins_16 : decode cX8_begins 16 = .ok (.iinc 1 1, 3) := dk_132 1 1 (dk_at dksX8_begins_0 16 rfl rfl)
theorem dX8_begins_19 : decode cX8_begins 19 = .ok (.goto (-17), 3) := dk_167 255 239 (dk_at dksX8_begins_0 19 rfl rfl)
theorem dX8_begins_22 : decode cX8_begins 22 = .ok (.iconst 0, 1) := dk_3 (dk_at dksX8_begins_0 22 rfl rfl)
theorem dX8_begins_23 : decode cX8_begins 23 = .ok (.istore_n 1, 1) := dk_60 (dk_at dksX8_begins_0 23 rfl rfl)
theorem dX8_begins_24 : decode cX8_begins 24 = .ok (.iload_n 1, 1) := dk_27 (dk_at dksX8_begins_1 0 rfl rfl)
theorem dX8_begins_25 : decode cX8_begins 25 = .ok (.iconst 2, 1) := dk_5 (dk_at dksX8_begins_1 1 rfl rfl)
theorem dX8_begins_26 : decode cX8_begins 26 = .ok (.if_icmp .ge 24, 3) := dk_162 0 24 (dk_at dksX8_begins_1 2 rfl rfl)
theorem dX8_begins_29 : decode cX8_begins 29 = .ok (.aload_n 0, 1) := dk_42 (dk_at dksX8_begins_1 5 rfl rfl)
theorem dX8_begins_30 : decode cX8_begins 30 = .ok (.getfield 9, 3) := dk_180 0 9 (dk_at dksX8_begins_1 6 rfl rfl)
theorem dX8_begins_33 : decode cX8_begins 33 = .ok (.sipush 383, 3) := dk_17 1 127 (dk_at dksX8_begins_1 9 rfl rfl)
theorem dX8_begins_36 : decode cX8_begins 36 = .ok (.iconst 4, 1) := dk_7 (dk_at dksX8_begins_1 12 rfl rfl)
theorem dX8_begins_37 : decode cX8_begins 37 = .ok (.iload_n 1, 1) := dk_27 (dk_at dksX8_begins_1 13 rfl rfl)
theorem dX8_begins_38 : decode cX8_begins 38 = .ok (.imul, 1) := dk_104 (dk_at dksX8_begins_1 14 rfl rfl)
theorem dX8_begins_39 : decode cX8_begins 39 = .ok (.iadd, 1) := dk_96 (dk_at dksX8_begins_1 15 rfl rfl)
theorem dX8_begins_40 : decode cX8_begins 40 = .ok (.iconst 2, 1) := dk_5 (dk_at dksX8_begins_1 16 rfl rfl)
theorem dX8_begins_41 : decode cX8_begins 41 = .ok (.iadd, 1) := dk_96 (dk_at dksX8_begins_1 17 rfl rfl)
theorem dX8_begins_42 : decode cX8_begins 42 = .ok (.iconst 2, 1) := dk_5 (dk_at dksX8_begins_1 18 rfl rfl)
theorem dX8_begins_43 : decode cX8_begins 43 = .ok (.iastore, 1) := dk_79 (dk_at dksX8_begins_1 19 rfl rfl)
theorem dX8_begins_44 : decode cX8_begins 44 = .ok (.iinc 1 1, 3) := dk_132 1 1 (dk_at dksX8_begins_1 20 rfl rfl)
theorem dX8_begins_47 : decode cX8_begins 47 = .ok (.goto (-23), 3) := dk_167 255 233 (dk_at dksX8_begins_2 0 rfl rfl)
theorem dX8_begins_50 : decode cX8_begins 50 = .ok (.iconst 0, 1) := dk_3 (dk_at dksX8_begins_2 3 rfl rfl)
theorem dX8_begins_51 : decode cX8_begins 51 = .ok (.istore_n 1, 1) := dk_60 (dk_at dksX8_begins_2 4 rfl rfl)
theorem dX8_begins_52 : decode cX8_begins 52 = .ok (.iload_n 1, 1) := dk_27 (dk_at dksX8_begins_2 5 rfl rfl)
theorem dX8_begins_53 : decode cX8_begins 53 = .ok (.iconst 3, 1) := dk_6 (dk_at dksX8_begins_2 6 rfl rfl)
theorem dX8_begins_54 : decode cX8_begins 54 = .ok (.if_icmp .ge 25, 3) := dk_162 0 25 (dk_at dksX8_begins_2 7 rfl rfl)
theorem dX8_begins_57 : decode cX8_begins 57 = .ok (.aload_n 0, 1) := dk_42 (dk_at dksX8_begins_2 10 rfl rfl)
theorem dX8_begins_58 : decode cX8_begins 58 = .ok (.getfield 9, 3) := dk_180 0 9 (dk_at dksX8_begins_2 11 rfl rfl)
theorem dX8_begins_61 : decode cX8_begins 61 = .ok (.sipush 391, 3) := dk_17 1 135 (dk_at dksX8_begins_2 14 rfl rfl)
theorem dX8_begins_64 : decode cX8_begins 64 = .ok (.iconst 5, 1) := dk_8 (dk_at dksX8_begins_2 17 rfl rfl)
theorem dX8_begins_65 : decode cX8_begins 65 = .ok (.iload_n 1, 1) := dk_27 (dk_at dksX8_begins_2 18 rfl rfl)
theorem dX8_begins_66 : decode cX8_begins 66 = .ok (.imul, 1) := dk_104 (dk_at dksX8_begins_2 19 rfl rfl)
theorem dX8_begins_67 : decode cX8_begins 67 = .ok (.iadd, 1) := dk_96 (dk_at dksX8_begins_2 20 rfl rfl)
theorem dX8_begins_68 : decode cX8_begins 68 = .ok (.iconst 1, 1) := dk_4 (dk_at dksX8_begins_2 21 rfl rfl)
theorem dX8_begins_69 : decode cX8_begins 69 = .ok (.iadd, 1) := dk_96 (dk_at dksX8_begins_2 22 rfl rfl)
theorem dX8_begins_70 : decode cX8_begins 70 = .ok (.bipush 10, 2) := dk_16 10 (dk_at dksX8_begins_3 0 rfl rfl)
theorem dX8_begins_72 : decode cX8_begins 72 = .ok (.iastore, 1) := dk_79 (dk_at dksX8_begins_3 2 rfl rfl)
theorem dX8_begins_73 : decode cX8_begins 73 = .ok (.iinc 1 1, 3) := dk_132 1 1 (dk_at dksX8_begins_3 3 rfl rfl)
theorem dX8_begins_76 : decode cX8_begins 76 = .ok (.goto (-24), 3) := dk_167 255 232 (dk_at dksX8_begins_3 6 rfl rfl)
theorem dX8_begins_79 : decode cX8_begins 79 = .ok (.iconst 0, 1) := dk_3 (dk_at dksX8_begins_3 9 rfl rfl)
theorem dX8_begins_80 : decode cX8_begins 80 = .ok (.istore_n 1, 1) := dk_60 (dk_at dksX8_begins_3 10 rfl rfl)
theorem dX8_begins_81 : decode cX8_begins 81 = .ok (.iload_n 1, 1) := dk_27 (dk_at dksX8_begins_3 11 rfl rfl)
theorem dX8_begins_82 : decode cX8_begins 82 = .ok (.bipush 7, 2) := dk_16 7 (dk_at dksX8_begins_3 12 rfl rfl)
theorem dX8_begins_84 : decode cX8_begins 84 = .ok (.if_icmp .ge 22, 3) := dk_162 0 22 (dk_at dksX8_begins_3 14 rfl rfl)
theorem dX8_begins_87 : decode cX8_begins 87 = .ok (.aload_n 0, 1) := dk_42 (dk_at dksX8_begins_3 17 rfl rfl)
theorem dX8_begins_88 : decode cX8_begins 88 = .ok (.getfield 9, 3) := dk_180 0 9 (dk_at dksX8_begins_3 18 rfl rfl)
theorem dX8_begins_91 : decode cX8_begins 91 = .ok (.sipush 406, 3) := dk_17 1 150 (dk_at dksX8_begins_3 21 rfl rfl)
theorem dX8_begins_94 : decode cX8_begins 94 = .ok (.iconst 3, 1) := dk_6 (dk_at dksX8_begins_4 0 rfl rfl)
theorem dX8_begins_95 : decode cX8_begins 95 = .ok (.iload_n 1, 1) := dk_27 (dk_at dksX8_begins_4 1 rfl rfl)
theorem dX8_begins_96 : decode cX8_begins 96 = .ok (.imul, 1) := dk_104 (dk_at dksX8_begins_4 2 rfl rfl)
theorem dX8_begins_97 : decode cX8_begins 97 = .ok (.iadd, 1) := dk_96 (dk_at dksX8_begins_4 3 rfl rfl)
theorem dX8_begins_98 : decode cX8_begins 98 = .ok (.iconst 2, 1) := dk_5 (dk_at dksX8_begins_4 4 rfl rfl)
theorem dX8_begins_99 : decode cX8_begins 99 = .ok (.iastore, 1) := dk_79 (dk_at dksX8_begins_4 5 rfl rfl)
theorem dX8_begins_100 : decode cX8_begins 100 = .ok (.iinc 1 1, 3) := dk_132 1 1 (dk_at dksX8_begins_4 6 rfl rfl)
theorem dX8_begins_103 : decode cX8_begins 103 = .ok (.goto (-22), 3) := dk_167 255 234 (dk_at dksX8_begins_4 9 rfl rfl)
theorem dX8_begins_106 : decode cX8_begins 106 = .ok (.aload_n 0, 1) := dk_42 (dk_at dksX8_begins_4 12 rfl rfl)
theorem dX8_begins_107 : decode cX8_begins 107 = .ok (.getfield 9, 3) := dk_180 0 9 (dk_at dksX8_begins_4 13 rfl rfl)
theorem dX8_begins_110 : decode cX8_begins 110 = .ok (.sipush 427, 3) := dk_17 1 171 (dk_at dksX8_begins_4 16 rfl rfl)
theorem dX8_begins_113 : decode cX8_begins 113 = .ok (.iconst (-1), 1) := dk_2 (dk_at dksX8_begins_4 19 rfl rfl)
theorem dX8_begins_114 : decode cX8_begins 114 = .ok (.iastore, 1) := dk_79 (dk_at dksX8_begins_4 20 rfl rfl)
theorem dX8_begins_115 : decode cX8_begins 115 = .ok (.aload_n 0, 1) := dk_42 (dk_at dksX8_begins_4 21 rfl rfl)
theorem dX8_begins_116 : decode cX8_begins 116 = .ok (.iconst 0, 1) := dk_3 (dk_at dksX8_begins_4 22 rfl rfl)
theorem dX8_begins_117 : decode cX8_begins 117 = .ok (.putfield 53, 3) := dk_181 0 53 (dk_at dksX8_begins_5 0 rfl rfl)
theorem dX8_begins_120 : decode cX8_begins 120 = .ok (.return_, 1) := dk_177 (dk_at dksX8_begins_5 3 rfl rfl)
def dkwX8_clear_0 : List UInt8 := [42, 180, 0, 9, 3, 46, 60, 42, 182, 0, 50, 27, 172]
abbrev dktX8_clear_0 : List UInt8 := dkwX8_clear_0 ++ []
theorem dksX8_clear_0 : cX8_clear.data.toList.drop 0 = dktX8_clear_0 := by decide +kernel
theorem dX8_clear_0 : decode cX8_clear 0 = .ok (.aload_n 0, 1) := dk_42 (dk_at dksX8_clear_0 0 rfl rfl)
theorem dX8_clear_1 : decode cX8_clear 1 = .ok (.getfield 9, 3) := dk_180 0 9 (dk_at dksX8_clear_0 1 rfl rfl)
theorem dX8_clear_4 : decode cX8_clear 4 = .ok (.iconst 0, 1) := dk_3 (dk_at dksX8_clear_0 4 rfl rfl)
theorem dX8_clear_5 : decode cX8_clear 5 = .ok (.iaload, 1) := dk_46 (dk_at dksX8_clear_0 5 rfl rfl)
theorem dX8_clear_6 : decode cX8_clear 6 = .ok (.istore_n 1, 1) := dk_60 (dk_at dksX8_clear_0 6 rfl rfl)
theorem dX8_clear_7 : decode cX8_clear 7 = .ok (.aload_n 0, 1) := dk_42 (dk_at dksX8_clear_0 7 rfl rfl)
theorem dX8_clear_8 : decode cX8_clear 8 = .ok (.invokevirtual 50, 3) := dk_182 0 50 (dk_at dksX8_clear_0 8 rfl rfl)
theorem dX8_clear_11 : decode cX8_clear 11 = .ok (.iload_n 1, 1) := dk_27 (dk_at dksX8_clear_0 11 rfl rfl)
theorem dX8_clear_12 : decode cX8_clear 12 = .ok (.ireturn, 1) := dk_172 (dk_at dksX8_clear_0 12 rfl rfl)
def dkwX8_append_1 : List UInt8 := [180, 0, 31, 42, 180, 0, 60, 27, 79, 42, 89, 180, 0, 60, 4, 96, 181, 0, 60, 42, 180, 0, 60, 172]
abbrev dktX8_append_1 : List UInt8 := dkwX8_append_1 ++ []
def dkwX8_append_0 : List UInt8 := [27, 16, 32, 16, 126, 184, 0, 56, 153, 0, 12, 42, 180, 0, 60, 16, 60, 160, 0, 6, 16, 254, 172, 42]
abbrev dktX8_append_0 : List UInt8 := dkwX8_append_0 ++ dktX8_append_1
theorem dksX8_append_0 : cX8_append.data.toList.drop 0 = dktX8_append_0 := by decide +kernel
theorem dksX8_append_1 : cX8_append.data.toList.drop 24 = dktX8_append_1 := dk_seg dksX8_append_0 24 rfl rfl
theorem dX8_append_0 : decode cX8_append 0 = .ok (.iload_n 1, 1) := dk_27 (dk_at dksX8_append_0 0 rfl rfl)
theorem dX8_append_1 : decode cX8_append 1 = .ok (.bipush 32, 2) := dk_16 32 (dk_at dksX8_append_0 1 rfl rfl)
theorem dX8_append_3 : decode cX8_append 3 = .ok (.bipush 126, 2) := dk_16 126 (dk_at dksX8_append_0 3 rfl rfl)
theorem dX8_append_5 : decode cX8_append 5 = .ok (.invokestatic 56, 3) := dk_184 0 56 (dk_at dksX8_append_0 5 rfl rfl)
theorem dX8_append_8 : decode cX8_append 8 = .ok (.ifCond .eq 12, 3) := dk_153 0 12 (dk_at dksX8_append_0 8 rfl rfl)
theorem dX8_append_11 : decode cX8_append 11 = .ok (.aload_n 0, 1) := dk_42 (dk_at dksX8_append_0 11 rfl rfl)
theorem dX8_append_12 : decode cX8_append 12 = .ok (.getfield 60, 3) := dk_180 0 60 (dk_at dksX8_append_0 12 rfl rfl)
theorem dX8_append_15 : decode cX8_append 15 = .ok (.bipush 60, 2) := dk_16 60 (dk_at dksX8_append_0 15 rfl rfl)
theorem dX8_append_17 : decode cX8_append 17 = .ok (.if_icmp .ne 6, 3) := dk_160 0 6 (dk_at dksX8_append_0 17 rfl rfl)
theorem dX8_append_20 : decode cX8_append 20 = .ok (.bipush (-2), 2) := dk_16 254 (dk_at dksX8_append_0 20 rfl rfl)
theorem dX8_append_22 : decode cX8_append 22 = .ok (.ireturn, 1) := dk_172 (dk_at dksX8_append_0 22 rfl rfl)
theorem dX8_append_23 : decode cX8_append 23 = .ok (.aload_n 0, 1) := dk_42 (dk_at dksX8_append_0 23 rfl rfl)
theorem dX8_append_24 : decode cX8_append 24 = .ok (.getfield 31, 3) := dk_180 0 31 (dk_at dksX8_append_1 0 rfl rfl)
theorem dX8_append_27 : decode cX8_append 27 = .ok (.aload_n 0, 1) := dk_42 (dk_at dksX8_append_1 3 rfl rfl)
theorem dX8_append_28 : decode cX8_append 28 = .ok (.getfield 60, 3) := dk_180 0 60 (dk_at dksX8_append_1 4 rfl rfl)
theorem dX8_append_31 : decode cX8_append 31 = .ok (.iload_n 1, 1) := dk_27 (dk_at dksX8_append_1 7 rfl rfl)
theorem dX8_append_32 : decode cX8_append 32 = .ok (.iastore, 1) := dk_79 (dk_at dksX8_append_1 8 rfl rfl)
theorem dX8_append_33 : decode cX8_append 33 = .ok (.aload_n 0, 1) := dk_42 (dk_at dksX8_append_1 9 rfl rfl)
theorem dX8_append_34 : decode cX8_append 34 = .ok (.dup, 1) := dk_89 (dk_at dksX8_append_1 10 rfl rfl)
theorem dX8_append_35 : decode cX8_append 35 = .ok (.getfield 60, 3) := dk_180 0 60 (dk_at dksX8_append_1 11 rfl rfl)
theorem dX8_append_38 : decode cX8_append 38 = .ok (.iconst 1, 1) := dk_4 (dk_at dksX8_append_1 14 rfl rfl)
theorem dX8_append_39 : decode cX8_append 39 = .ok (.iadd, 1) := dk_96 (dk_at dksX8_append_1 15 rfl rfl)
theorem dX8_append_40 : decode cX8_append 40 = .ok (.putfield 60, 3) := dk_181 0 60 (dk_at dksX8_append_1 16 rfl rfl)
theorem dX8_append_43 : decode cX8_append 43 = .ok (.aload_n 0, 1) := dk_42 (dk_at dksX8_append_1 19 rfl rfl)
theorem dX8_append_44 : decode cX8_append 44 = .ok (.getfield 60, 3) := dk_180 0 60 (dk_at dksX8_append_1 20 rfl rfl)
theorem dX8_append_47 : decode cX8_append 47 = .ok (.ireturn, 1) := dk_172 (dk_at dksX8_append_1 23 rfl rfl)
def dkwX8_isIn_0 : List UInt8 := [26, 27, 161, 0, 12, 26, 28, 163, 0, 7, 4, 167, 0, 4, 3, 172]
abbrev dktX8_isIn_0 : List UInt8 := dkwX8_isIn_0 ++ []
theorem dksX8_isIn_0 : cX8_isIn.data.toList.drop 0 = dktX8_isIn_0 := by decide +kernel
theorem dX8_isIn_0 : decode cX8_isIn 0 = .ok (.iload_n 0, 1) := dk_26 (dk_at dksX8_isIn_0 0 rfl rfl)
theorem dX8_isIn_1 : decode cX8_isIn 1 = .ok (.iload_n 1, 1) := dk_27 (dk_at dksX8_isIn_0 1 rfl rfl)
theorem dX8_isIn_2 : decode cX8_isIn 2 = .ok (.if_icmp .lt 12, 3) := dk_161 0 12 (dk_at dksX8_isIn_0 2 rfl rfl)
theorem dX8_isIn_5 : decode cX8_isIn 5 = .ok (.iload_n 0, 1) := dk_26 (dk_at dksX8_isIn_0 5 rfl rfl)
theorem dX8_isIn_6 : decode cX8_isIn 6 = .ok (.iload_n 2, 1) := dk_28 (dk_at dksX8_isIn_0 6 rfl rfl)
theorem dX8_isIn_7 : decode cX8_isIn 7 = .ok (.if_icmp .gt 7, 3) := dk_163 0 7 (dk_at dksX8_isIn_0 7 rfl rfl)
theorem dX8_isIn_10 : decode cX8_isIn 10 = .ok (.iconst 1, 1) := dk_4 (dk_at dksX8_isIn_0 10 rfl rfl)
theorem dX8_isIn_11 : decode cX8_isIn 11 = .ok (.goto 4, 3) := dk_167 0 4 (dk_at dksX8_isIn_0 11 rfl rfl)
theorem dX8_isIn_14 : decode cX8_isIn 14 = .ok (.iconst 0, 1) := dk_3 (dk_at dksX8_isIn_0 14 rfl rfl)
theorem dX8_isIn_15 : decode cX8_isIn 15 = .ok (.ireturn, 1) := dk_172 (dk_at dksX8_isIn_0 15 rfl rfl)
def dkwX8_reason_2 : List UInt8 := [46, 172]
abbrev dktX8_reason_2 : List UInt8 := dkwX8_reason_2 ++ []
def dkwX8_reason_1 : List UInt8 := [16, 252, 167, 0, 23, 28, 4, 160, 0, 12, 42, 180, 0, 28, 27, 46, 167, 0, 9, 42, 180, 0, 25, 27]
abbrev dktX8_reason_1 : List UInt8 := dkwX8_reason_1 ++ dktX8_reason_2
def dkwX8_reason_0 : List UInt8 := [27, 155, 0, 12, 28, 3, 4, 184, 0, 56, 154, 0, 6, 16, 254, 172, 27, 42, 180, 0, 66, 161, 0, 8]
abbrev dktX8_reason_0 : List UInt8 := dkwX8_reason_0 ++ dktX8_reason_1
theorem dksX8_reason_0 : cX8_reason.data.toList.drop 0 = dktX8_reason_0 := by decide +kernel
theorem dksX8_reason_1 : cX8_reason.data.toList.drop 24 = dktX8_reason_1 := dk_seg dksX8_reason_0 24 rfl rfl
theorem dksX8_reason_2 : cX8_reason.data.toList.drop 48 = dktX8_reason_2 := dk_seg dksX8_reason_1 24 rfl rfl
theorem dX8_reason_0 : decode cX8_reason 0 = .ok (.iload_n 1, 1) := dk_27 (dk_at dksX8_reason_0 0 rfl rfl)
theorem dX8_reason_1 : decode cX8_reason 1 = .ok (.ifCond .lt 12, 3) := dk_155 0 12 (dk_at dksX8_reason_0 1 rfl rfl)
theorem dX8_reason_4 : decode cX8_reason 4 = .ok (.iload_n 2, 1) := dk_28 (dk_at dksX8_reason_0 4 rfl rfl)
theorem dX8_reason_5 : decode cX8_reason 5 = .ok (.iconst 0, 1) := dk_3 (dk_at dksX8_reason_0 5 rfl rfl)
theorem dX8_reason_6 : decode cX8_reason 6 = .ok (.iconst 1, 1) := dk_4 (dk_at dksX8_reason_0 6 rfl rfl)
theorem dX8_reason_7 : decode cX8_reason 7 = .ok (.invokestatic 56, 3) := dk_184 0 56 (dk_at dksX8_reason_0 7 rfl rfl)
theorem dX8_reason_10 : decode cX8_reason 10 = .ok (.ifCond .ne 6, 3) := dk_154 0 6 (dk_at dksX8_reason_0 10 rfl rfl)
theorem dX8_reason_13 : decode cX8_reason 13 = .ok (.bipush (-2), 2) := dk_16 254 (dk_at dksX8_reason_0 13 rfl rfl)
theorem dX8_reason_15 : decode cX8_reason 15 = .ok (.ireturn, 1) := dk_172 (dk_at dksX8_reason_0 15 rfl rfl)
theorem dX8_reason_16 : decode cX8_reason 16 = .ok (.iload_n 1, 1) := dk_27 (dk_at dksX8_reason_0 16 rfl rfl)
theorem dX8_reason_17 : decode cX8_reason 17 = .ok (.aload_n 0, 1) := dk_42 (dk_at dksX8_reason_0 17 rfl rfl)
theorem dX8_reason_18 : decode cX8_reason 18 = .ok (.getfield 66, 3) := dk_180 0 66 (dk_at dksX8_reason_0 18 rfl rfl)
theorem dX8_reason_21 : decode cX8_reason 21 = .ok (.if_icmp .lt 8, 3) := dk_161 0 8 (dk_at dksX8_reason_0 21 rfl rfl)
theorem dX8_reason_24 : decode cX8_reason 24 = .ok (.bipush (-4), 2) := dk_16 252 (dk_at dksX8_reason_1 0 rfl rfl)
theorem dX8_reason_26 : decode cX8_reason 26 = .ok (.goto 23, 3) := dk_167 0 23 (dk_at dksX8_reason_1 2 rfl rfl)
theorem dX8_reason_29 : decode cX8_reason 29 = .ok (.iload_n 2, 1) := dk_28 (dk_at dksX8_reason_1 5 rfl rfl)
theorem dX8_reason_30 : decode cX8_reason 30 = .ok (.iconst 1, 1) := dk_4 (dk_at dksX8_reason_1 6 rfl rfl)
theorem dX8_reason_31 : decode cX8_reason 31 = .ok (.if_icmp .ne 12, 3) := dk_160 0 12 (dk_at dksX8_reason_1 7 rfl rfl)
theorem dX8_reason_34 : decode cX8_reason 34 = .ok (.aload_n 0, 1) := dk_42 (dk_at dksX8_reason_1 10 rfl rfl)
theorem dX8_reason_35 : decode cX8_reason 35 = .ok (.getfield 28, 3) := dk_180 0 28 (dk_at dksX8_reason_1 11 rfl rfl)
theorem dX8_reason_38 : decode cX8_reason 38 = .ok (.iload_n 1, 1) := dk_27 (dk_at dksX8_reason_1 14 rfl rfl)
theorem dX8_reason_39 : decode cX8_reason 39 = .ok (.iaload, 1) := dk_46 (dk_at dksX8_reason_1 15 rfl rfl)
theorem dX8_reason_40 : decode cX8_reason 40 = .ok (.goto 9, 3) := dk_167 0 9 (dk_at dksX8_reason_1 16 rfl rfl)
theorem dX8_reason_43 : decode cX8_reason 43 = .ok (.aload_n 0, 1) := dk_42 (dk_at dksX8_reason_1 19 rfl rfl)
theorem dX8_reason_44 : decode cX8_reason 44 = .ok (.getfield 25, 3) := dk_180 0 25 (dk_at dksX8_reason_1 20 rfl rfl)
theorem dX8_reason_47 : decode cX8_reason 47 = .ok (.iload_n 1, 1) := dk_27 (dk_at dksX8_reason_1 23 rfl rfl)
theorem dX8_reason_48 : decode cX8_reason 48 = .ok (.iaload, 1) := dk_46 (dk_at dksX8_reason_2 0 rfl rfl)
theorem dX8_reason_49 : decode cX8_reason 49 = .ok (.ireturn, 1) := dk_172 (dk_at dksX8_reason_2 1 rfl rfl)
def dkwX8_undo_1 : List UInt8 := [42, 180, 0, 53, 17, 1, 177, 104, 42, 180, 0, 9, 3, 184, 0, 73, 42, 180, 0, 53, 172]
abbrev dktX8_undo_1 : List UInt8 := dkwX8_undo_1 ++ []
def dkwX8_undo_0 : List UInt8 := [42, 180, 0, 53, 154, 0, 6, 16, 252, 172, 42, 89, 180, 0, 53, 4, 100, 181, 0, 53, 42, 180, 0, 22]
abbrev dktX8_undo_0 : List UInt8 := dkwX8_undo_0 ++ dktX8_undo_1
theorem dksX8_undo_0 : cX8_undo.data.toList.drop 0 = dktX8_undo_0 := by decide +kernel
theorem dksX8_undo_1 : cX8_undo.data.toList.drop 24 = dktX8_undo_1 := dk_seg dksX8_undo_0 24 rfl rfl
theorem dX8_undo_0 : decode cX8_undo 0 = .ok (.aload_n 0, 1) := dk_42 (dk_at dksX8_undo_0 0 rfl rfl)
theorem dX8_undo_1 : decode cX8_undo 1 = .ok (.getfield 53, 3) := dk_180 0 53 (dk_at dksX8_undo_0 1 rfl rfl)
theorem dX8_undo_4 : decode cX8_undo 4 = .ok (.ifCond .ne 6, 3) := dk_154 0 6 (dk_at dksX8_undo_0 4 rfl rfl)
theorem dX8_undo_7 : decode cX8_undo 7 = .ok (.bipush (-4), 2) := dk_16 252 (dk_at dksX8_undo_0 7 rfl rfl)
theorem dX8_undo_9 : decode cX8_undo 9 = .ok (.ireturn, 1) := dk_172 (dk_at dksX8_undo_0 9 rfl rfl)
theorem dX8_undo_10 : decode cX8_undo 10 = .ok (.aload_n 0, 1) := dk_42 (dk_at dksX8_undo_0 10 rfl rfl)
theorem dX8_undo_11 : decode cX8_undo 11 = .ok (.dup, 1) := dk_89 (dk_at dksX8_undo_0 11 rfl rfl)
theorem dX8_undo_12 : decode cX8_undo 12 = .ok (.getfield 53, 3) := dk_180 0 53 (dk_at dksX8_undo_0 12 rfl rfl)
theorem dX8_undo_15 : decode cX8_undo 15 = .ok (.iconst 1, 1) := dk_4 (dk_at dksX8_undo_0 15 rfl rfl)
theorem dX8_undo_16 : decode cX8_undo 16 = .ok (.isub, 1) := dk_100 (dk_at dksX8_undo_0 16 rfl rfl)
theorem dX8_undo_17 : decode cX8_undo 17 = .ok (.putfield 53, 3) := dk_181 0 53 (dk_at dksX8_undo_0 17 rfl rfl)
theorem dX8_undo_20 : decode cX8_undo 20 = .ok (.aload_n 0, 1) := dk_42 (dk_at dksX8_undo_0 20 rfl rfl)
theorem dX8_undo_21 : decode cX8_undo 21 = .ok (.getfield 22, 3) := dk_180 0 22 (dk_at dksX8_undo_0 21 rfl rfl)
theorem dX8_undo_24 : decode cX8_undo 24 = .ok (.aload_n 0, 1) := dk_42 (dk_at dksX8_undo_1 0 rfl rfl)
theorem dX8_undo_25 : decode cX8_undo 25 = .ok (.getfield 53, 3) := dk_180 0 53 (dk_at dksX8_undo_1 1 rfl rfl)
theorem dX8_undo_28 : decode cX8_undo 28 = .ok (.sipush 433, 3) := dk_17 1 177 (dk_at dksX8_undo_1 4 rfl rfl)
theorem dX8_undo_31 : decode cX8_undo 31 = .ok (.imul, 1) := dk_104 (dk_at dksX8_undo_1 7 rfl rfl)
theorem dX8_undo_32 : decode cX8_undo 32 = .ok (.aload_n 0, 1) := dk_42 (dk_at dksX8_undo_1 8 rfl rfl)
theorem dX8_undo_33 : decode cX8_undo 33 = .ok (.getfield 9, 3) := dk_180 0 9 (dk_at dksX8_undo_1 9 rfl rfl)
theorem dX8_undo_36 : decode cX8_undo 36 = .ok (.iconst 0, 1) := dk_3 (dk_at dksX8_undo_1 12 rfl rfl)
theorem dX8_undo_37 : decode cX8_undo 37 = .ok (.invokestatic 73, 3) := dk_184 0 73 (dk_at dksX8_undo_1 13 rfl rfl)
theorem dX8_undo_40 : decode cX8_undo 40 = .ok (.aload_n 0, 1) := dk_42 (dk_at dksX8_undo_1 16 rfl rfl)
theorem dX8_undo_41 : decode cX8_undo 41 = .ok (.getfield 53, 3) := dk_180 0 53 (dk_at dksX8_undo_1 17 rfl rfl)
theorem dX8_undo_44 : decode cX8_undo 44 = .ok (.ireturn, 1) := dk_172 (dk_at dksX8_undo_1 20 rfl rfl)
def dkwX8_copies_1 : List UInt8 := [132, 4, 1, 167, 255, 233, 177]
abbrev dktX8_copies_1 : List UInt8 := dkwX8_copies_1 ++ []
def dkwX8_copies_0 : List UInt8 := [3, 54, 4, 21, 4, 17, 1, 177, 162, 0, 21, 44, 29, 21, 4, 96, 42, 27, 21, 4, 96, 46, 79]
abbrev dktX8_copies_0 : List UInt8 := dkwX8_copies_0 ++ dktX8_copies_1
theorem dksX8_copies_0 : cX8_copies.data.toList.drop 0 = dktX8_copies_0 := by decide +kernel
theorem dksX8_copies_1 : cX8_copies.data.toList.drop 23 = dktX8_copies_1 := dk_seg dksX8_copies_0 23 rfl rfl
theorem dX8_copies_0 : decode cX8_copies 0 = .ok (.iconst 0, 1) := dk_3 (dk_at dksX8_copies_0 0 rfl rfl)
theorem dX8_copies_1 : decode cX8_copies 1 = .ok (.istore 4, 2) := dk_54 4 (dk_at dksX8_copies_0 1 rfl rfl)
theorem dX8_copies_3 : decode cX8_copies 3 = .ok (.iload 4, 2) := dk_21 4 (dk_at dksX8_copies_0 3 rfl rfl)
theorem dX8_copies_5 : decode cX8_copies 5 = .ok (.sipush 433, 3) := dk_17 1 177 (dk_at dksX8_copies_0 5 rfl rfl)
theorem dX8_copies_8 : decode cX8_copies 8 = .ok (.if_icmp .ge 21, 3) := dk_162 0 21 (dk_at dksX8_copies_0 8 rfl rfl)
theorem dX8_copies_11 : decode cX8_copies 11 = .ok (.aload_n 2, 1) := dk_44 (dk_at dksX8_copies_0 11 rfl rfl)
theorem dX8_copies_12 : decode cX8_copies 12 = .ok (.iload_n 3, 1) := dk_29 (dk_at dksX8_copies_0 12 rfl rfl)
theorem dX8_copies_13 : decode cX8_copies 13 = .ok (.iload 4, 2) := dk_21 4 (dk_at dksX8_copies_0 13 rfl rfl)
theorem dX8_copies_15 : decode cX8_copies 15 = .ok (.iadd, 1) := dk_96 (dk_at dksX8_copies_0 15 rfl rfl)
theorem dX8_copies_16 : decode cX8_copies 16 = .ok (.aload_n 0, 1) := dk_42 (dk_at dksX8_copies_0 16 rfl rfl)
theorem dX8_copies_17 : decode cX8_copies 17 = .ok (.iload_n 1, 1) := dk_27 (dk_at dksX8_copies_0 17 rfl rfl)
theorem dX8_copies_18 : decode cX8_copies 18 = .ok (.iload 4, 2) := dk_21 4 (dk_at dksX8_copies_0 18 rfl rfl)
theorem dX8_copies_20 : decode cX8_copies 20 = .ok (.iadd, 1) := dk_96 (dk_at dksX8_copies_0 20 rfl rfl)
theorem dX8_copies_21 : decode cX8_copies 21 = .ok (.iaload, 1) := dk_46 (dk_at dksX8_copies_0 21 rfl rfl)
theorem dX8_copies_22 : decode cX8_copies 22 = .ok (.iastore, 1) := dk_79 (dk_at dksX8_copies_0 22 rfl rfl)
theorem dX8_copies_23 : decode cX8_copies 23 = .ok (.iinc 4 1, 3) := dk_132 4 1 (dk_at dksX8_copies_1 0 rfl rfl)
theorem dX8_copies_26 : decode cX8_copies 26 = .ok (.goto (-23), 3) := dk_167 255 233 (dk_at dksX8_copies_1 3 rfl rfl)
theorem dX8_copies_29 : decode cX8_copies 29 = .ok (.return_, 1) := dk_177 (dk_at dksX8_copies_1 6 rfl rfl)
def dkwX8_save_1 : List UInt8 := [172]
abbrev dktX8_save_1 : List UInt8 := dkwX8_save_1 ++ []
def dkwX8_save_0 : List UInt8 := [42, 180, 0, 9, 3, 42, 180, 0, 19, 3, 184, 0, 73, 42, 4, 181, 0, 85, 42, 180, 0, 9, 3, 46]
abbrev dktX8_save_0 : List UInt8 := dkwX8_save_0 ++ dktX8_save_1
theorem dksX8_save_0 : cX8_save.data.toList.drop 0 = dktX8_save_0 := by decide +kernel
theorem dksX8_save_1 : cX8_save.data.toList.drop 24 = dktX8_save_1 := dk_seg dksX8_save_0 24 rfl rfl
theorem dX8_save_0 : decode cX8_save 0 = .ok (.aload_n 0, 1) := dk_42 (dk_at dksX8_save_0 0 rfl rfl)
theorem dX8_save_1 : decode cX8_save 1 = .ok (.getfield 9, 3) := dk_180 0 9 (dk_at dksX8_save_0 1 rfl rfl)
theorem dX8_save_4 : decode cX8_save 4 = .ok (.iconst 0, 1) := dk_3 (dk_at dksX8_save_0 4 rfl rfl)
theorem dX8_save_5 : decode cX8_save 5 = .ok (.aload_n 0, 1) := dk_42 (dk_at dksX8_save_0 5 rfl rfl)
theorem dX8_save_6 : decode cX8_save 6 = .ok (.getfield 19, 3) := dk_180 0 19 (dk_at dksX8_save_0 6 rfl rfl)
theorem dX8_save_9 : decode cX8_save 9 = .ok (.iconst 0, 1) := dk_3 (dk_at dksX8_save_0 9 rfl rfl)
theorem dX8_save_10 : decode cX8_save 10 = .ok (.invokestatic 73, 3) := dk_184 0 73 (dk_at dksX8_save_0 10 rfl rfl)
theorem dX8_save_13 : decode cX8_save 13 = .ok (.aload_n 0, 1) := dk_42 (dk_at dksX8_save_0 13 rfl rfl)
theorem dX8_save_14 : decode cX8_save 14 = .ok (.iconst 1, 1) := dk_4 (dk_at dksX8_save_0 14 rfl rfl)
theorem dX8_save_15 : decode cX8_save 15 = .ok (.putfield 85, 3) := dk_181 0 85 (dk_at dksX8_save_0 15 rfl rfl)
theorem dX8_save_18 : decode cX8_save 18 = .ok (.aload_n 0, 1) := dk_42 (dk_at dksX8_save_0 18 rfl rfl)
theorem dX8_save_19 : decode cX8_save 19 = .ok (.getfield 9, 3) := dk_180 0 9 (dk_at dksX8_save_0 19 rfl rfl)
theorem dX8_save_22 : decode cX8_save 22 = .ok (.iconst 0, 1) := dk_3 (dk_at dksX8_save_0 22 rfl rfl)
theorem dX8_save_23 : decode cX8_save 23 = .ok (.iaload, 1) := dk_46 (dk_at dksX8_save_0 23 rfl rfl)
theorem dX8_save_24 : decode cX8_save 24 = .ok (.ireturn, 1) := dk_172 (dk_at dksX8_save_1 0 rfl rfl)
def dkwX8_restore_1 : List UInt8 := [3, 181, 0, 53, 42, 180, 0, 9, 3, 46, 172]
abbrev dktX8_restore_1 : List UInt8 := dkwX8_restore_1 ++ []
def dkwX8_restore_0 : List UInt8 := [42, 180, 0, 85, 154, 0, 6, 16, 252, 172, 42, 180, 0, 19, 3, 42, 180, 0, 9, 3, 184, 0, 73, 42]
abbrev dktX8_restore_0 : List UInt8 := dkwX8_restore_0 ++ dktX8_restore_1
theorem dksX8_restore_0 : cX8_restore.data.toList.drop 0 = dktX8_restore_0 := by decide +kernel
theorem dksX8_restore_1 : cX8_restore.data.toList.drop 24 = dktX8_restore_1 := dk_seg dksX8_restore_0 24 rfl rfl
theorem dX8_restore_0 : decode cX8_restore 0 = .ok (.aload_n 0, 1) := dk_42 (dk_at dksX8_restore_0 0 rfl rfl)
theorem dX8_restore_1 : decode cX8_restore 1 = .ok (.getfield 85, 3) := dk_180 0 85 (dk_at dksX8_restore_0 1 rfl rfl)
theorem dX8_restore_4 : decode cX8_restore 4 = .ok (.ifCond .ne 6, 3) := dk_154 0 6 (dk_at dksX8_restore_0 4 rfl rfl)
theorem dX8_restore_7 : decode cX8_restore 7 = .ok (.bipush (-4), 2) := dk_16 252 (dk_at dksX8_restore_0 7 rfl rfl)
theorem dX8_restore_9 : decode cX8_restore 9 = .ok (.ireturn, 1) := dk_172 (dk_at dksX8_restore_0 9 rfl rfl)
theorem dX8_restore_10 : decode cX8_restore 10 = .ok (.aload_n 0, 1) := dk_42 (dk_at dksX8_restore_0 10 rfl rfl)
theorem dX8_restore_11 : decode cX8_restore 11 = .ok (.getfield 19, 3) := dk_180 0 19 (dk_at dksX8_restore_0 11 rfl rfl)
theorem dX8_restore_14 : decode cX8_restore 14 = .ok (.iconst 0, 1) := dk_3 (dk_at dksX8_restore_0 14 rfl rfl)
theorem dX8_restore_15 : decode cX8_restore 15 = .ok (.aload_n 0, 1) := dk_42 (dk_at dksX8_restore_0 15 rfl rfl)
theorem dX8_restore_16 : decode cX8_restore 16 = .ok (.getfield 9, 3) := dk_180 0 9 (dk_at dksX8_restore_0 16 rfl rfl)
theorem dX8_restore_19 : decode cX8_restore 19 = .ok (.iconst 0, 1) := dk_3 (dk_at dksX8_restore_0 19 rfl rfl)
theorem dX8_restore_20 : decode cX8_restore 20 = .ok (.invokestatic 73, 3) := dk_184 0 73 (dk_at dksX8_restore_0 20 rfl rfl)
theorem dX8_restore_23 : decode cX8_restore 23 = .ok (.aload_n 0, 1) := dk_42 (dk_at dksX8_restore_0 23 rfl rfl)
theorem dX8_restore_24 : decode cX8_restore 24 = .ok (.iconst 0, 1) := dk_3 (dk_at dksX8_restore_1 0 rfl rfl)
theorem dX8_restore_25 : decode cX8_restore 25 = .ok (.putfield 53, 3) := dk_181 0 53 (dk_at dksX8_restore_1 1 rfl rfl)
theorem dX8_restore_28 : decode cX8_restore 28 = .ok (.aload_n 0, 1) := dk_42 (dk_at dksX8_restore_1 4 rfl rfl)
theorem dX8_restore_29 : decode cX8_restore 29 = .ok (.getfield 9, 3) := dk_180 0 9 (dk_at dksX8_restore_1 5 rfl rfl)
theorem dX8_restore_32 : decode cX8_restore 32 = .ok (.iconst 0, 1) := dk_3 (dk_at dksX8_restore_1 8 rfl rfl)
theorem dX8_restore_33 : decode cX8_restore 33 = .ok (.iaload, 1) := dk_46 (dk_at dksX8_restore_1 9 rfl rfl)
theorem dX8_restore_34 : decode cX8_restore 34 = .ok (.ireturn, 1) := dk_172 (dk_at dksX8_restore_1 10 rfl rfl)
def dkwX8_parish_3 : List UInt8 := [182, 0, 104, 172]
abbrev dktX8_parish_3 : List UInt8 := dkwX8_parish_3 ++ []
def dkwX8_parish_2 : List UInt8 := [180, 0, 9, 4, 16, 23, 28, 104, 96, 27, 79, 42, 180, 0, 9, 3, 92, 46, 4, 96, 79, 42, 28]
abbrev dktX8_parish_2 : List UInt8 := dkwX8_parish_2 ++ dktX8_parish_3
def dkwX8_parish_1 : List UInt8 := [42, 42, 4, 16, 6, 3, 3, 182, 0, 100, 182, 0, 104, 172, 42, 180, 0, 9, 3, 46, 61, 42]
abbrev dktX8_parish_1 : List UInt8 := dkwX8_parish_1 ++ dktX8_parish_2
def dkwX8_parish_0 : List UInt8 := [27, 184, 0, 93, 154, 0, 5, 2, 172, 42, 182, 0, 97, 42, 180, 0, 9, 3, 46, 16, 6, 160, 0, 17]
abbrev dktX8_parish_0 : List UInt8 := dkwX8_parish_0 ++ dktX8_parish_1
theorem dksX8_parish_0 : cX8_parish.data.toList.drop 0 = dktX8_parish_0 := by decide +kernel
theorem dksX8_parish_1 : cX8_parish.data.toList.drop 24 = dktX8_parish_1 := dk_seg dksX8_parish_0 24 rfl rfl
theorem dksX8_parish_2 : cX8_parish.data.toList.drop 46 = dktX8_parish_2 := dk_seg dksX8_parish_1 22 rfl rfl
theorem dksX8_parish_3 : cX8_parish.data.toList.drop 69 = dktX8_parish_3 := dk_seg dksX8_parish_2 23 rfl rfl
theorem dX8_parish_0 : decode cX8_parish 0 = .ok (.iload_n 1, 1) := dk_27 (dk_at dksX8_parish_0 0 rfl rfl)
theorem dX8_parish_1 : decode cX8_parish 1 = .ok (.invokestatic 93, 3) := dk_184 0 93 (dk_at dksX8_parish_0 1 rfl rfl)
theorem dX8_parish_4 : decode cX8_parish 4 = .ok (.ifCond .ne 5, 3) := dk_154 0 5 (dk_at dksX8_parish_0 4 rfl rfl)
theorem dX8_parish_7 : decode cX8_parish 7 = .ok (.iconst (-1), 1) := dk_2 (dk_at dksX8_parish_0 7 rfl rfl)
theorem dX8_parish_8 : decode cX8_parish 8 = .ok (.ireturn, 1) := dk_172 (dk_at dksX8_parish_0 8 rfl rfl)
theorem dX8_parish_9 : decode cX8_parish 9 = .ok (.aload_n 0, 1) := dk_42 (dk_at dksX8_parish_0 9 rfl rfl)
theorem dX8_parish_10 : decode cX8_parish 10 = .ok (.invokevirtual 97, 3) := dk_182 0 97 (dk_at dksX8_parish_0 10 rfl rfl)
theorem dX8_parish_13 : decode cX8_parish 13 = .ok (.aload_n 0, 1) := dk_42 (dk_at dksX8_parish_0 13 rfl rfl)
theorem dX8_parish_14 : decode cX8_parish 14 = .ok (.getfield 9, 3) := dk_180 0 9 (dk_at dksX8_parish_0 14 rfl rfl)
theorem dX8_parish_17 : decode cX8_parish 17 = .ok (.iconst 0, 1) := dk_3 (dk_at dksX8_parish_0 17 rfl rfl)
theorem dX8_parish_18 : decode cX8_parish 18 = .ok (.iaload, 1) := dk_46 (dk_at dksX8_parish_0 18 rfl rfl)
theorem dX8_parish_19 : decode cX8_parish 19 = .ok (.bipush 6, 2) := dk_16 6 (dk_at dksX8_parish_0 19 rfl rfl)
theorem dX8_parish_21 : decode cX8_parish 21 = .ok (.if_icmp .ne 17, 3) := dk_160 0 17 (dk_at dksX8_parish_0 21 rfl rfl)
theorem dX8_parish_24 : decode cX8_parish 24 = .ok (.aload_n 0, 1) := dk_42 (dk_at dksX8_parish_1 0 rfl rfl)
theorem dX8_parish_25 : decode cX8_parish 25 = .ok (.aload_n 0, 1) := dk_42 (dk_at dksX8_parish_1 1 rfl rfl)
theorem dX8_parish_26 : decode cX8_parish 26 = .ok (.iconst 1, 1) := dk_4 (dk_at dksX8_parish_1 2 rfl rfl)
theorem dX8_parish_27 : decode cX8_parish 27 = .ok (.bipush 6, 2) := dk_16 6 (dk_at dksX8_parish_1 3 rfl rfl)
theorem dX8_parish_29 : decode cX8_parish 29 = .ok (.iconst 0, 1) := dk_3 (dk_at dksX8_parish_1 5 rfl rfl)
theorem dX8_parish_30 : decode cX8_parish 30 = .ok (.iconst 0, 1) := dk_3 (dk_at dksX8_parish_1 6 rfl rfl)
theorem dX8_parish_31 : decode cX8_parish 31 = .ok (.invokevirtual 100, 3) := dk_182 0 100 (dk_at dksX8_parish_1 7 rfl rfl)
theorem dX8_parish_34 : decode cX8_parish 34 = .ok (.invokevirtual 104, 3) := dk_182 0 104 (dk_at dksX8_parish_1 10 rfl rfl)
theorem dX8_parish_37 : decode cX8_parish 37 = .ok (.ireturn, 1) := dk_172 (dk_at dksX8_parish_1 13 rfl rfl)
theorem dX8_parish_38 : decode cX8_parish 38 = .ok (.aload_n 0, 1) := dk_42 (dk_at dksX8_parish_1 14 rfl rfl)
theorem dX8_parish_39 : decode cX8_parish 39 = .ok (.getfield 9, 3) := dk_180 0 9 (dk_at dksX8_parish_1 15 rfl rfl)
theorem dX8_parish_42 : decode cX8_parish 42 = .ok (.iconst 0, 1) := dk_3 (dk_at dksX8_parish_1 18 rfl rfl)
theorem dX8_parish_43 : decode cX8_parish 43 = .ok (.iaload, 1) := dk_46 (dk_at dksX8_parish_1 19 rfl rfl)
theorem dX8_parish_44 : decode cX8_parish 44 = .ok (.istore_n 2, 1) := dk_61 (dk_at dksX8_parish_1 20 rfl rfl)
theorem dX8_parish_45 : decode cX8_parish 45 = .ok (.aload_n 0, 1) := dk_42 (dk_at dksX8_parish_1 21 rfl rfl)
theorem dX8_parish_46 : decode cX8_parish 46 = .ok (.getfield 9, 3) := dk_180 0 9 (dk_at dksX8_parish_2 0 rfl rfl)
theorem dX8_parish_49 : decode cX8_parish 49 = .ok (.iconst 1, 1) := dk_4 (dk_at dksX8_parish_2 3 rfl rfl)
theorem dX8_parish_50 : decode cX8_parish 50 = .ok (.bipush 23, 2) := dk_16 23 (dk_at dksX8_parish_2 4 rfl rfl)
theorem dX8_parish_52 : decode cX8_parish 52 = .ok (.iload_n 2, 1) := dk_28 (dk_at dksX8_parish_2 6 rfl rfl)
theorem dX8_parish_53 : decode cX8_parish 53 = .ok (.imul, 1) := dk_104 (dk_at dksX8_parish_2 7 rfl rfl)
theorem dX8_parish_54 : decode cX8_parish 54 = .ok (.iadd, 1) := dk_96 (dk_at dksX8_parish_2 8 rfl rfl)
theorem dX8_parish_55 : decode cX8_parish 55 = .ok (.iload_n 1, 1) := dk_27 (dk_at dksX8_parish_2 9 rfl rfl)
theorem dX8_parish_56 : decode cX8_parish 56 = .ok (.iastore, 1) := dk_79 (dk_at dksX8_parish_2 10 rfl rfl)
theorem dX8_parish_57 : decode cX8_parish 57 = .ok (.aload_n 0, 1) := dk_42 (dk_at dksX8_parish_2 11 rfl rfl)
theorem dX8_parish_58 : decode cX8_parish 58 = .ok (.getfield 9, 3) := dk_180 0 9 (dk_at dksX8_parish_2 12 rfl rfl)
theorem dX8_parish_61 : decode cX8_parish 61 = .ok (.iconst 0, 1) := dk_3 (dk_at dksX8_parish_2 15 rfl rfl)
theorem dX8_parish_62 : decode cX8_parish 62 = .ok (.dup2, 1) := dk_92 (dk_at dksX8_parish_2 16 rfl rfl)
theorem dX8_parish_63 : decode cX8_parish 63 = .ok (.iaload, 1) := dk_46 (dk_at dksX8_parish_2 17 rfl rfl)
theorem dX8_parish_64 : decode cX8_parish 64 = .ok (.iconst 1, 1) := dk_4 (dk_at dksX8_parish_2 18 rfl rfl)
theorem dX8_parish_65 : decode cX8_parish 65 = .ok (.iadd, 1) := dk_96 (dk_at dksX8_parish_2 19 rfl rfl)
theorem dX8_parish_66 : decode cX8_parish 66 = .ok (.iastore, 1) := dk_79 (dk_at dksX8_parish_2 20 rfl rfl)
theorem dX8_parish_67 : decode cX8_parish 67 = .ok (.aload_n 0, 1) := dk_42 (dk_at dksX8_parish_2 21 rfl rfl)
theorem dX8_parish_68 : decode cX8_parish 68 = .ok (.iload_n 2, 1) := dk_28 (dk_at dksX8_parish_2 22 rfl rfl)
theorem dX8_parish_69 : decode cX8_parish 69 = .ok (.invokevirtual 104, 3) := dk_182 0 104 (dk_at dksX8_parish_3 0 rfl rfl)
theorem dX8_parish_72 : decode cX8_parish 72 = .ok (.ireturn, 1) := dk_172 (dk_at dksX8_parish_3 3 rfl rfl)
def dkwX8_isKind_0 : List UInt8 := [26, 3, 5, 184, 0, 56, 172]
abbrev dktX8_isKind_0 : List UInt8 := dkwX8_isKind_0 ++ []
theorem dksX8_isKind_0 : cX8_isKind.data.toList.drop 0 = dktX8_isKind_0 := by decide +kernel
theorem dX8_isKind_0 : decode cX8_isKind 0 = .ok (.iload_n 0, 1) := dk_26 (dk_at dksX8_isKind_0 0 rfl rfl)
theorem dX8_isKind_1 : decode cX8_isKind 1 = .ok (.iconst 0, 1) := dk_3 (dk_at dksX8_isKind_0 1 rfl rfl)
theorem dX8_isKind_2 : decode cX8_isKind 2 = .ok (.iconst 2, 1) := dk_5 (dk_at dksX8_isKind_0 2 rfl rfl)
theorem dX8_isKind_3 : decode cX8_isKind 3 = .ok (.invokestatic 56, 3) := dk_184 0 56 (dk_at dksX8_isKind_0 3 rfl rfl)
theorem dX8_isKind_6 : decode cX8_isKind 6 = .ok (.ireturn, 1) := dk_172 (dk_at dksX8_isKind_0 6 rfl rfl)
def dkwX8_starts_0 : List UInt8 := [42, 180, 0, 9, 3, 42, 180, 0, 13, 3, 184, 0, 73, 42, 3, 181, 0, 63, 177]
abbrev dktX8_starts_0 : List UInt8 := dkwX8_starts_0 ++ []
theorem dksX8_starts_0 : cX8_starts.data.toList.drop 0 = dktX8_starts_0 := by decide +kernel
theorem dX8_starts_0 : decode cX8_starts 0 = .ok (.aload_n 0, 1) := dk_42 (dk_at dksX8_starts_0 0 rfl rfl)
theorem dX8_starts_1 : decode cX8_starts 1 = .ok (.getfield 9, 3) := dk_180 0 9 (dk_at dksX8_starts_0 1 rfl rfl)
theorem dX8_starts_4 : decode cX8_starts 4 = .ok (.iconst 0, 1) := dk_3 (dk_at dksX8_starts_0 4 rfl rfl)
theorem dX8_starts_5 : decode cX8_starts 5 = .ok (.aload_n 0, 1) := dk_42 (dk_at dksX8_starts_0 5 rfl rfl)
theorem dX8_starts_6 : decode cX8_starts 6 = .ok (.getfield 13, 3) := dk_180 0 13 (dk_at dksX8_starts_0 6 rfl rfl)
theorem dX8_starts_9 : decode cX8_starts 9 = .ok (.iconst 0, 1) := dk_3 (dk_at dksX8_starts_0 9 rfl rfl)
theorem dX8_starts_10 : decode cX8_starts 10 = .ok (.invokestatic 73, 3) := dk_184 0 73 (dk_at dksX8_starts_0 10 rfl rfl)
theorem dX8_starts_13 : decode cX8_starts 13 = .ok (.aload_n 0, 1) := dk_42 (dk_at dksX8_starts_0 13 rfl rfl)
theorem dX8_starts_14 : decode cX8_starts 14 = .ok (.iconst 0, 1) := dk_3 (dk_at dksX8_starts_0 14 rfl rfl)
theorem dX8_starts_15 : decode cX8_starts 15 = .ok (.putfield 63, 3) := dk_181 0 63 (dk_at dksX8_starts_0 15 rfl rfl)
theorem dX8_starts_18 : decode cX8_starts 18 = .ok (.return_, 1) := dk_177 (dk_at dksX8_starts_0 18 rfl rfl)
def dkwX8_refuses_1 : List UInt8 := [4, 28, 79, 42, 180, 0, 41, 5, 29, 79, 42, 180, 0, 41, 6, 21, 4, 79, 16, 253, 172]
abbrev dktX8_refuses_1 : List UInt8 := dkwX8_refuses_1 ++ []
def dkwX8_refuses_0 : List UInt8 := [42, 29, 154, 0, 7, 4, 167, 0, 4, 5, 181, 0, 63, 42, 180, 0, 41, 3, 27, 79, 42, 180, 0, 41]
abbrev dktX8_refuses_0 : List UInt8 := dkwX8_refuses_0 ++ dktX8_refuses_1
theorem dksX8_refuses_0 : cX8_refuses.data.toList.drop 0 = dktX8_refuses_0 := by decide +kernel
theorem dksX8_refuses_1 : cX8_refuses.data.toList.drop 24 = dktX8_refuses_1 := dk_seg dksX8_refuses_0 24 rfl rfl
theorem dX8_refuses_0 : decode cX8_refuses 0 = .ok (.aload_n 0, 1) := dk_42 (dk_at dksX8_refuses_0 0 rfl rfl)
theorem dX8_refuses_1 : decode cX8_refuses 1 = .ok (.iload_n 3, 1) := dk_29 (dk_at dksX8_refuses_0 1 rfl rfl)
theorem dX8_refuses_2 : decode cX8_refuses 2 = .ok (.ifCond .ne 7, 3) := dk_154 0 7 (dk_at dksX8_refuses_0 2 rfl rfl)
theorem dX8_refuses_5 : decode cX8_refuses 5 = .ok (.iconst 1, 1) := dk_4 (dk_at dksX8_refuses_0 5 rfl rfl)
theorem dX8_refuses_6 : decode cX8_refuses 6 = .ok (.goto 4, 3) := dk_167 0 4 (dk_at dksX8_refuses_0 6 rfl rfl)
theorem dX8_refuses_9 : decode cX8_refuses 9 = .ok (.iconst 2, 1) := dk_5 (dk_at dksX8_refuses_0 9 rfl rfl)
theorem dX8_refuses_10 : decode cX8_refuses 10 = .ok (.putfield 63, 3) := dk_181 0 63 (dk_at dksX8_refuses_0 10 rfl rfl)
theorem dX8_refuses_13 : decode cX8_refuses 13 = .ok (.aload_n 0, 1) := dk_42 (dk_at dksX8_refuses_0 13 rfl rfl)
theorem dX8_refuses_14 : decode cX8_refuses 14 = .ok (.getfield 41, 3) := dk_180 0 41 (dk_at dksX8_refuses_0 14 rfl rfl)
theorem dX8_refuses_17 : decode cX8_refuses 17 = .ok (.iconst 0, 1) := dk_3 (dk_at dksX8_refuses_0 17 rfl rfl)
theorem dX8_refuses_18 : decode cX8_refuses 18 = .ok (.iload_n 1, 1) := dk_27 (dk_at dksX8_refuses_0 18 rfl rfl)
theorem dX8_refuses_19 : decode cX8_refuses 19 = .ok (.iastore, 1) := dk_79 (dk_at dksX8_refuses_0 19 rfl rfl)
theorem dX8_refuses_20 : decode cX8_refuses 20 = .ok (.aload_n 0, 1) := dk_42 (dk_at dksX8_refuses_0 20 rfl rfl)
theorem dX8_refuses_21 : decode cX8_refuses 21 = .ok (.getfield 41, 3) := dk_180 0 41 (dk_at dksX8_refuses_0 21 rfl rfl)
theorem dX8_refuses_24 : decode cX8_refuses 24 = .ok (.iconst 1, 1) := dk_4 (dk_at dksX8_refuses_1 0 rfl rfl)
theorem dX8_refuses_25 : decode cX8_refuses 25 = .ok (.iload_n 2, 1) := dk_28 (dk_at dksX8_refuses_1 1 rfl rfl)
theorem dX8_refuses_26 : decode cX8_refuses 26 = .ok (.iastore, 1) := dk_79 (dk_at dksX8_refuses_1 2 rfl rfl)
theorem dX8_refuses_27 : decode cX8_refuses 27 = .ok (.aload_n 0, 1) := dk_42 (dk_at dksX8_refuses_1 3 rfl rfl)
theorem dX8_refuses_28 : decode cX8_refuses 28 = .ok (.getfield 41, 3) := dk_180 0 41 (dk_at dksX8_refuses_1 4 rfl rfl)
theorem dX8_refuses_31 : decode cX8_refuses 31 = .ok (.iconst 2, 1) := dk_5 (dk_at dksX8_refuses_1 7 rfl rfl)
theorem dX8_refuses_32 : decode cX8_refuses 32 = .ok (.iload_n 3, 1) := dk_29 (dk_at dksX8_refuses_1 8 rfl rfl)
theorem dX8_refuses_33 : decode cX8_refuses 33 = .ok (.iastore, 1) := dk_79 (dk_at dksX8_refuses_1 9 rfl rfl)
theorem dX8_refuses_34 : decode cX8_refuses 34 = .ok (.aload_n 0, 1) := dk_42 (dk_at dksX8_refuses_1 10 rfl rfl)
theorem dX8_refuses_35 : decode cX8_refuses 35 = .ok (.getfield 41, 3) := dk_180 0 41 (dk_at dksX8_refuses_1 11 rfl rfl)
theorem dX8_refuses_38 : decode cX8_refuses 38 = .ok (.iconst 3, 1) := dk_6 (dk_at dksX8_refuses_1 14 rfl rfl)
theorem dX8_refuses_39 : decode cX8_refuses 39 = .ok (.iload 4, 2) := dk_21 4 (dk_at dksX8_refuses_1 15 rfl rfl)
theorem dX8_refuses_41 : decode cX8_refuses 41 = .ok (.iastore, 1) := dk_79 (dk_at dksX8_refuses_1 17 rfl rfl)
theorem dX8_refuses_42 : decode cX8_refuses 42 = .ok (.bipush (-3), 2) := dk_16 253 (dk_at dksX8_refuses_1 18 rfl rfl)
theorem dX8_refuses_44 : decode cX8_refuses 44 = .ok (.ireturn, 1) := dk_172 (dk_at dksX8_refuses_1 20 rfl rfl)
def dkwX8_ends_1 : List UInt8 := [42, 27, 182, 0, 81, 172]
abbrev dktX8_ends_1 : List UInt8 := dkwX8_ends_1 ++ []
def dkwX8_ends_0 : List UInt8 := [27, 156, 0, 23, 42, 3, 182, 0, 77, 42, 180, 0, 13, 3, 42, 180, 0, 9, 3, 184, 0, 73, 27, 172]
abbrev dktX8_ends_0 : List UInt8 := dkwX8_ends_0 ++ dktX8_ends_1
theorem dksX8_ends_0 : cX8_ends.data.toList.drop 0 = dktX8_ends_0 := by decide +kernel
theorem dksX8_ends_1 : cX8_ends.data.toList.drop 24 = dktX8_ends_1 := dk_seg dksX8_ends_0 24 rfl rfl
theorem dX8_ends_0 : decode cX8_ends 0 = .ok (.iload_n 1, 1) := dk_27 (dk_at dksX8_ends_0 0 rfl rfl)
theorem dX8_ends_1 : decode cX8_ends 1 = .ok (.ifCond .ge 23, 3) := dk_156 0 23 (dk_at dksX8_ends_0 1 rfl rfl)
theorem dX8_ends_4 : decode cX8_ends 4 = .ok (.aload_n 0, 1) := dk_42 (dk_at dksX8_ends_0 4 rfl rfl)
theorem dX8_ends_5 : decode cX8_ends 5 = .ok (.iconst 0, 1) := dk_3 (dk_at dksX8_ends_0 5 rfl rfl)
theorem dX8_ends_6 : decode cX8_ends 6 = .ok (.invokevirtual 77, 3) := dk_182 0 77 (dk_at dksX8_ends_0 6 rfl rfl)
theorem dX8_ends_9 : decode cX8_ends 9 = .ok (.aload_n 0, 1) := dk_42 (dk_at dksX8_ends_0 9 rfl rfl)
theorem dX8_ends_10 : decode cX8_ends 10 = .ok (.getfield 13, 3) := dk_180 0 13 (dk_at dksX8_ends_0 10 rfl rfl)
theorem dX8_ends_13 : decode cX8_ends 13 = .ok (.iconst 0, 1) := dk_3 (dk_at dksX8_ends_0 13 rfl rfl)
theorem dX8_ends_14 : decode cX8_ends 14 = .ok (.aload_n 0, 1) := dk_42 (dk_at dksX8_ends_0 14 rfl rfl)
theorem dX8_ends_15 : decode cX8_ends 15 = .ok (.getfield 9, 3) := dk_180 0 9 (dk_at dksX8_ends_0 15 rfl rfl)
theorem dX8_ends_18 : decode cX8_ends 18 = .ok (.iconst 0, 1) := dk_3 (dk_at dksX8_ends_0 18 rfl rfl)
theorem dX8_ends_19 : decode cX8_ends 19 = .ok (.invokestatic 73, 3) := dk_184 0 73 (dk_at dksX8_ends_0 19 rfl rfl)
theorem dX8_ends_22 : decode cX8_ends 22 = .ok (.iload_n 1, 1) := dk_27 (dk_at dksX8_ends_0 22 rfl rfl)
theorem dX8_ends_23 : decode cX8_ends 23 = .ok (.ireturn, 1) := dk_172 (dk_at dksX8_ends_0 23 rfl rfl)
theorem dX8_ends_24 : decode cX8_ends 24 = .ok (.aload_n 0, 1) := dk_42 (dk_at dksX8_ends_1 0 rfl rfl)
theorem dX8_ends_25 : decode cX8_ends 25 = .ok (.iload_n 1, 1) := dk_27 (dk_at dksX8_ends_1 1 rfl rfl)
theorem dX8_ends_26 : decode cX8_ends 26 = .ok (.invokevirtual 81, 3) := dk_182 0 81 (dk_at dksX8_ends_1 2 rfl rfl)
theorem dX8_ends_29 : decode cX8_ends 29 = .ok (.ireturn, 1) := dk_172 (dk_at dksX8_ends_1 5 rfl rfl)
def dkwX8_keepsWhy_1 : List UInt8 := [180, 0, 41, 5, 28, 104, 4, 96, 46, 182, 0, 69, 132, 2, 1, 167, 255, 220, 177]
abbrev dktX8_keepsWhy_1 : List UInt8 := dkwX8_keepsWhy_1 ++ []
def dkwX8_keepsWhy_0 : List UInt8 := [3, 61, 28, 42, 180, 0, 63, 162, 0, 34, 42, 27, 28, 96, 42, 180, 0, 41, 5, 28, 104, 46, 42]
abbrev dktX8_keepsWhy_0 : List UInt8 := dkwX8_keepsWhy_0 ++ dktX8_keepsWhy_1
theorem dksX8_keepsWhy_0 : cX8_keepsWhy.data.toList.drop 0 = dktX8_keepsWhy_0 := by decide +kernel
theorem dksX8_keepsWhy_1 : cX8_keepsWhy.data.toList.drop 23 = dktX8_keepsWhy_1 := dk_seg dksX8_keepsWhy_0 23 rfl rfl
theorem dX8_keepsWhy_0 : decode cX8_keepsWhy 0 = .ok (.iconst 0, 1) := dk_3 (dk_at dksX8_keepsWhy_0 0 rfl rfl)
theorem dX8_keepsWhy_1 : decode cX8_keepsWhy 1 = .ok (.istore_n 2, 1) := dk_61 (dk_at dksX8_keepsWhy_0 1 rfl rfl)
theorem dX8_keepsWhy_2 : decode cX8_keepsWhy 2 = .ok (.iload_n 2, 1) := dk_28 (dk_at dksX8_keepsWhy_0 2 rfl rfl)
theorem dX8_keepsWhy_3 : decode cX8_keepsWhy 3 = .ok (.aload_n 0, 1) := dk_42 (dk_at dksX8_keepsWhy_0 3 rfl rfl)
theorem dX8_keepsWhy_4 : decode cX8_keepsWhy 4 = .ok (.getfield 63, 3) := dk_180 0 63 (dk_at dksX8_keepsWhy_0 4 rfl rfl)
theorem dX8_keepsWhy_7 : decode cX8_keepsWhy 7 = .ok (.if_icmp .ge 34, 3) := dk_162 0 34 (dk_at dksX8_keepsWhy_0 7 rfl rfl)
theorem dX8_keepsWhy_10 : decode cX8_keepsWhy 10 = .ok (.aload_n 0, 1) := dk_42 (dk_at dksX8_keepsWhy_0 10 rfl rfl)
theorem dX8_keepsWhy_11 : decode cX8_keepsWhy 11 = .ok (.iload_n 1, 1) := dk_27 (dk_at dksX8_keepsWhy_0 11 rfl rfl)
theorem dX8_keepsWhy_12 : decode cX8_keepsWhy 12 = .ok (.iload_n 2, 1) := dk_28 (dk_at dksX8_keepsWhy_0 12 rfl rfl)
theorem dX8_keepsWhy_13 : decode cX8_keepsWhy 13 = .ok (.iadd, 1) := dk_96 (dk_at dksX8_keepsWhy_0 13 rfl rfl)
theorem dX8_keepsWhy_14 : decode cX8_keepsWhy 14 = .ok (.aload_n 0, 1) := dk_42 (dk_at dksX8_keepsWhy_0 14 rfl rfl)
theorem dX8_keepsWhy_15 : decode cX8_keepsWhy 15 = .ok (.getfield 41, 3) := dk_180 0 41 (dk_at dksX8_keepsWhy_0 15 rfl rfl)
theorem dX8_keepsWhy_18 : decode cX8_keepsWhy 18 = .ok (.iconst 2, 1) := dk_5 (dk_at dksX8_keepsWhy_0 18 rfl rfl)
theorem dX8_keepsWhy_19 : decode cX8_keepsWhy 19 = .ok (.iload_n 2, 1) := dk_28 (dk_at dksX8_keepsWhy_0 19 rfl rfl)
theorem dX8_keepsWhy_20 : decode cX8_keepsWhy 20 = .ok (.imul, 1) := dk_104 (dk_at dksX8_keepsWhy_0 20 rfl rfl)
theorem dX8_keepsWhy_21 : decode cX8_keepsWhy 21 = .ok (.iaload, 1) := dk_46 (dk_at dksX8_keepsWhy_0 21 rfl rfl)
theorem dX8_keepsWhy_22 : decode cX8_keepsWhy 22 = .ok (.aload_n 0, 1) := dk_42 (dk_at dksX8_keepsWhy_0 22 rfl rfl)
theorem dX8_keepsWhy_23 : decode cX8_keepsWhy 23 = .ok (.getfield 41, 3) := dk_180 0 41 (dk_at dksX8_keepsWhy_1 0 rfl rfl)
theorem dX8_keepsWhy_26 : decode cX8_keepsWhy 26 = .ok (.iconst 2, 1) := dk_5 (dk_at dksX8_keepsWhy_1 3 rfl rfl)
theorem dX8_keepsWhy_27 : decode cX8_keepsWhy 27 = .ok (.iload_n 2, 1) := dk_28 (dk_at dksX8_keepsWhy_1 4 rfl rfl)
theorem dX8_keepsWhy_28 : decode cX8_keepsWhy 28 = .ok (.imul, 1) := dk_104 (dk_at dksX8_keepsWhy_1 5 rfl rfl)
theorem dX8_keepsWhy_29 : decode cX8_keepsWhy 29 = .ok (.iconst 1, 1) := dk_4 (dk_at dksX8_keepsWhy_1 6 rfl rfl)
theorem dX8_keepsWhy_30 : decode cX8_keepsWhy 30 = .ok (.iadd, 1) := dk_96 (dk_at dksX8_keepsWhy_1 7 rfl rfl)
theorem dX8_keepsWhy_31 : decode cX8_keepsWhy 31 = .ok (.iaload, 1) := dk_46 (dk_at dksX8_keepsWhy_1 8 rfl rfl)
theorem dX8_keepsWhy_32 : decode cX8_keepsWhy 32 = .ok (.invokevirtual 69, 3) := dk_182 0 69 (dk_at dksX8_keepsWhy_1 9 rfl rfl)
theorem dX8_keepsWhy_35 : decode cX8_keepsWhy 35 = .ok (.iinc 2 1, 3) := dk_132 2 1 (dk_at dksX8_keepsWhy_1 12 rfl rfl)
theorem dX8_keepsWhy_38 : decode cX8_keepsWhy 38 = .ok (.goto (-36), 3) := dk_167 255 220 (dk_at dksX8_keepsWhy_1 15 rfl rfl)
theorem dX8_keepsWhy_41 : decode cX8_keepsWhy 41 = .ok (.return_, 1) := dk_177 (dk_at dksX8_keepsWhy_1 18 rfl rfl)
def dkwX8_keeps_0 : List UInt8 := [42, 27, 4, 96, 181, 0, 66, 42, 180, 0, 25, 27, 28, 79, 42, 180, 0, 28, 27, 29, 79, 177]
abbrev dktX8_keeps_0 : List UInt8 := dkwX8_keeps_0 ++ []
theorem dksX8_keeps_0 : cX8_keeps.data.toList.drop 0 = dktX8_keeps_0 := by decide +kernel
theorem dX8_keeps_0 : decode cX8_keeps 0 = .ok (.aload_n 0, 1) := dk_42 (dk_at dksX8_keeps_0 0 rfl rfl)
theorem dX8_keeps_1 : decode cX8_keeps 1 = .ok (.iload_n 1, 1) := dk_27 (dk_at dksX8_keeps_0 1 rfl rfl)
theorem dX8_keeps_2 : decode cX8_keeps 2 = .ok (.iconst 1, 1) := dk_4 (dk_at dksX8_keeps_0 2 rfl rfl)
theorem dX8_keeps_3 : decode cX8_keeps 3 = .ok (.iadd, 1) := dk_96 (dk_at dksX8_keeps_0 3 rfl rfl)
theorem dX8_keeps_4 : decode cX8_keeps 4 = .ok (.putfield 66, 3) := dk_181 0 66 (dk_at dksX8_keeps_0 4 rfl rfl)
theorem dX8_keeps_7 : decode cX8_keeps 7 = .ok (.aload_n 0, 1) := dk_42 (dk_at dksX8_keeps_0 7 rfl rfl)
theorem dX8_keeps_8 : decode cX8_keeps 8 = .ok (.getfield 25, 3) := dk_180 0 25 (dk_at dksX8_keeps_0 8 rfl rfl)
theorem dX8_keeps_11 : decode cX8_keeps 11 = .ok (.iload_n 1, 1) := dk_27 (dk_at dksX8_keeps_0 11 rfl rfl)
theorem dX8_keeps_12 : decode cX8_keeps 12 = .ok (.iload_n 2, 1) := dk_28 (dk_at dksX8_keeps_0 12 rfl rfl)
theorem dX8_keeps_13 : decode cX8_keeps 13 = .ok (.iastore, 1) := dk_79 (dk_at dksX8_keeps_0 13 rfl rfl)
theorem dX8_keeps_14 : decode cX8_keeps 14 = .ok (.aload_n 0, 1) := dk_42 (dk_at dksX8_keeps_0 14 rfl rfl)
theorem dX8_keeps_15 : decode cX8_keeps 15 = .ok (.getfield 28, 3) := dk_180 0 28 (dk_at dksX8_keeps_0 15 rfl rfl)
theorem dX8_keeps_18 : decode cX8_keeps 18 = .ok (.iload_n 1, 1) := dk_27 (dk_at dksX8_keeps_0 18 rfl rfl)
theorem dX8_keeps_19 : decode cX8_keeps 19 = .ok (.iload_n 3, 1) := dk_29 (dk_at dksX8_keeps_0 19 rfl rfl)
theorem dX8_keeps_20 : decode cX8_keeps 20 = .ok (.iastore, 1) := dk_79 (dk_at dksX8_keeps_0 20 rfl rfl)
theorem dX8_keeps_21 : decode cX8_keeps 21 = .ok (.return_, 1) := dk_177 (dk_at dksX8_keeps_0 21 rfl rfl)
def dkwX8_remembers_3 : List UInt8 := [89, 180, 0, 53, 4, 96, 181, 0, 53, 27, 172]
abbrev dktX8_remembers_3 : List UInt8 := dkwX8_remembers_3 ++ []
def dkwX8_remembers_2 : List UInt8 := [181, 0, 53, 42, 180, 0, 13, 3, 42, 180, 0, 22, 42, 180, 0, 53, 17, 1, 177, 104, 184, 0, 73, 42]
abbrev dktX8_remembers_2 : List UInt8 := dkwX8_remembers_2 ++ dktX8_remembers_3
def dkwX8_remembers_1 : List UInt8 := [180, 0, 22, 28, 17, 1, 177, 96, 46, 79, 132, 2, 1, 167, 255, 230, 42, 89, 180, 0, 53, 4, 100]
abbrev dktX8_remembers_1 : List UInt8 := dkwX8_remembers_1 ++ dktX8_remembers_2
def dkwX8_remembers_0 : List UInt8 := [42, 180, 0, 53, 16, 8, 160, 0, 44, 3, 61, 28, 17, 11, 215, 162, 0, 25, 42, 180, 0, 22, 28, 42]
abbrev dktX8_remembers_0 : List UInt8 := dkwX8_remembers_0 ++ dktX8_remembers_1
theorem dksX8_remembers_0 : cX8_remembers.data.toList.drop 0 = dktX8_remembers_0 := by decide +kernel
theorem dksX8_remembers_1 : cX8_remembers.data.toList.drop 24 = dktX8_remembers_1 := dk_seg dksX8_remembers_0 24 rfl rfl
theorem dksX8_remembers_2 : cX8_remembers.data.toList.drop 47 = dktX8_remembers_2 := dk_seg dksX8_remembers_1 23 rfl rfl
theorem dksX8_remembers_3 : cX8_remembers.data.toList.drop 71 = dktX8_remembers_3 := dk_seg dksX8_remembers_2 24 rfl rfl
theorem dX8_remembers_0 : decode cX8_remembers 0 = .ok (.aload_n 0, 1) := dk_42 (dk_at dksX8_remembers_0 0 rfl rfl)
theorem dX8_remembers_1 : decode cX8_remembers 1 = .ok (.getfield 53, 3) := dk_180 0 53 (dk_at dksX8_remembers_0 1 rfl rfl)
theorem dX8_remembers_4 : decode cX8_remembers 4 = .ok (.bipush 8, 2) := dk_16 8 (dk_at dksX8_remembers_0 4 rfl rfl)
theorem dX8_remembers_6 : decode cX8_remembers 6 = .ok (.if_icmp .ne 44, 3) := dk_160 0 44 (dk_at dksX8_remembers_0 6 rfl rfl)
theorem dX8_remembers_9 : decode cX8_remembers 9 = .ok (.iconst 0, 1) := dk_3 (dk_at dksX8_remembers_0 9 rfl rfl)
theorem dX8_remembers_10 : decode cX8_remembers 10 = .ok (.istore_n 2, 1) := dk_61 (dk_at dksX8_remembers_0 10 rfl rfl)
theorem dX8_remembers_11 : decode cX8_remembers 11 = .ok (.iload_n 2, 1) := dk_28 (dk_at dksX8_remembers_0 11 rfl rfl)
theorem dX8_remembers_12 : decode cX8_remembers 12 = .ok (.sipush 3031, 3) := dk_17 11 215 (dk_at dksX8_remembers_0 12 rfl rfl)
theorem dX8_remembers_15 : decode cX8_remembers 15 = .ok (.if_icmp .ge 25, 3) := dk_162 0 25 (dk_at dksX8_remembers_0 15 rfl rfl)
theorem dX8_remembers_18 : decode cX8_remembers 18 = .ok (.aload_n 0, 1) := dk_42 (dk_at dksX8_remembers_0 18 rfl rfl)
theorem dX8_remembers_19 : decode cX8_remembers 19 = .ok (.getfield 22, 3) := dk_180 0 22 (dk_at dksX8_remembers_0 19 rfl rfl)
theorem dX8_remembers_22 : decode cX8_remembers 22 = .ok (.iload_n 2, 1) := dk_28 (dk_at dksX8_remembers_0 22 rfl rfl)
theorem dX8_remembers_23 : decode cX8_remembers 23 = .ok (.aload_n 0, 1) := dk_42 (dk_at dksX8_remembers_0 23 rfl rfl)
theorem dX8_remembers_24 : decode cX8_remembers 24 = .ok (.getfield 22, 3) := dk_180 0 22 (dk_at dksX8_remembers_1 0 rfl rfl)
theorem dX8_remembers_27 : decode cX8_remembers 27 = .ok (.iload_n 2, 1) := dk_28 (dk_at dksX8_remembers_1 3 rfl rfl)
theorem dX8_remembers_28 : decode cX8_remembers 28 = .ok (.sipush 433, 3) := dk_17 1 177 (dk_at dksX8_remembers_1 4 rfl rfl)
theorem dX8_remembers_31 : decode cX8_remembers 31 = .ok (.iadd, 1) := dk_96 (dk_at dksX8_remembers_1 7 rfl rfl)
theorem dX8_remembers_32 : decode cX8_remembers 32 = .ok (.iaload, 1) := dk_46 (dk_at dksX8_remembers_1 8 rfl rfl)
theorem dX8_remembers_33 : decode cX8_remembers 33 = .ok (.iastore, 1) := dk_79 (dk_at dksX8_remembers_1 9 rfl rfl)
theorem dX8_remembers_34 : decode cX8_remembers 34 = .ok (.iinc 2 1, 3) := dk_132 2 1 (dk_at dksX8_remembers_1 10 rfl rfl)
theorem dX8_remembers_37 : decode cX8_remembers 37 = .ok (.goto (-26), 3) := dk_167 255 230 (dk_at dksX8_remembers_1 13 rfl rfl)
theorem dX8_remembers_40 : decode cX8_remembers 40 = .ok (.aload_n 0, 1) := dk_42 (dk_at dksX8_remembers_1 16 rfl rfl)
theorem dX8_remembers_41 : decode cX8_remembers 41 = .ok (.dup, 1) := dk_89 (dk_at dksX8_remembers_1 17 rfl rfl)
theorem dX8_remembers_42 : decode cX8_remembers 42 = .ok (.getfield 53, 3) := dk_180 0 53 (dk_at dksX8_remembers_1 18 rfl rfl)
theorem dX8_remembers_45 : decode cX8_remembers 45 = .ok (.iconst 1, 1) := dk_4 (dk_at dksX8_remembers_1 21 rfl rfl)
theorem dX8_remembers_46 : decode cX8_remembers 46 = .ok (.isub, 1) := dk_100 (dk_at dksX8_remembers_1 22 rfl rfl)
theorem dX8_remembers_47 : decode cX8_remembers 47 = .ok (.putfield 53, 3) := dk_181 0 53 (dk_at dksX8_remembers_2 0 rfl rfl)
theorem dX8_remembers_50 : decode cX8_remembers 50 = .ok (.aload_n 0, 1) := dk_42 (dk_at dksX8_remembers_2 3 rfl rfl)
theorem dX8_remembers_51 : decode cX8_remembers 51 = .ok (.getfield 13, 3) := dk_180 0 13 (dk_at dksX8_remembers_2 4 rfl rfl)
theorem dX8_remembers_54 : decode cX8_remembers 54 = .ok (.iconst 0, 1) := dk_3 (dk_at dksX8_remembers_2 7 rfl rfl)
theorem dX8_remembers_55 : decode cX8_remembers 55 = .ok (.aload_n 0, 1) := dk_42 (dk_at dksX8_remembers_2 8 rfl rfl)
theorem dX8_remembers_56 : decode cX8_remembers 56 = .ok (.getfield 22, 3) := dk_180 0 22 (dk_at dksX8_remembers_2 9 rfl rfl)
theorem dX8_remembers_59 : decode cX8_remembers 59 = .ok (.aload_n 0, 1) := dk_42 (dk_at dksX8_remembers_2 12 rfl rfl)
theorem dX8_remembers_60 : decode cX8_remembers 60 = .ok (.getfield 53, 3) := dk_180 0 53 (dk_at dksX8_remembers_2 13 rfl rfl)
theorem dX8_remembers_63 : decode cX8_remembers 63 = .ok (.sipush 433, 3) := dk_17 1 177 (dk_at dksX8_remembers_2 16 rfl rfl)
theorem dX8_remembers_66 : decode cX8_remembers 66 = .ok (.imul, 1) := dk_104 (dk_at dksX8_remembers_2 19 rfl rfl)
theorem dX8_remembers_67 : decode cX8_remembers 67 = .ok (.invokestatic 73, 3) := dk_184 0 73 (dk_at dksX8_remembers_2 20 rfl rfl)
theorem dX8_remembers_70 : decode cX8_remembers 70 = .ok (.aload_n 0, 1) := dk_42 (dk_at dksX8_remembers_2 23 rfl rfl)
theorem dX8_remembers_71 : decode cX8_remembers 71 = .ok (.dup, 1) := dk_89 (dk_at dksX8_remembers_3 0 rfl rfl)
theorem dX8_remembers_72 : decode cX8_remembers 72 = .ok (.getfield 53, 3) := dk_180 0 53 (dk_at dksX8_remembers_3 1 rfl rfl)
theorem dX8_remembers_75 : decode cX8_remembers 75 = .ok (.iconst 1, 1) := dk_4 (dk_at dksX8_remembers_3 4 rfl rfl)
theorem dX8_remembers_76 : decode cX8_remembers 76 = .ok (.iadd, 1) := dk_96 (dk_at dksX8_remembers_3 5 rfl rfl)
theorem dX8_remembers_77 : decode cX8_remembers 77 = .ok (.putfield 53, 3) := dk_181 0 53 (dk_at dksX8_remembers_3 6 rfl rfl)
theorem dX8_remembers_80 : decode cX8_remembers 80 = .ok (.iload_n 1, 1) := dk_27 (dk_at dksX8_remembers_3 9 rfl rfl)
theorem dX8_remembers_81 : decode cX8_remembers 81 = .ok (.ireturn, 1) := dk_172 (dk_at dksX8_remembers_3 10 rfl rfl)
def dkwX8_harvest_0 : List UInt8 := [42, 182, 0, 97, 42, 42, 27, 28, 182, 0, 113, 182, 0, 104, 172]
abbrev dktX8_harvest_0 : List UInt8 := dkwX8_harvest_0 ++ []
theorem dksX8_harvest_0 : cX8_harvest.data.toList.drop 0 = dktX8_harvest_0 := by decide +kernel
theorem dX8_harvest_0 : decode cX8_harvest 0 = .ok (.aload_n 0, 1) := dk_42 (dk_at dksX8_harvest_0 0 rfl rfl)
theorem dX8_harvest_1 : decode cX8_harvest 1 = .ok (.invokevirtual 97, 3) := dk_182 0 97 (dk_at dksX8_harvest_0 1 rfl rfl)
theorem dX8_harvest_4 : decode cX8_harvest 4 = .ok (.aload_n 0, 1) := dk_42 (dk_at dksX8_harvest_0 4 rfl rfl)
theorem dX8_harvest_5 : decode cX8_harvest 5 = .ok (.aload_n 0, 1) := dk_42 (dk_at dksX8_harvest_0 5 rfl rfl)
theorem dX8_harvest_6 : decode cX8_harvest 6 = .ok (.iload_n 1, 1) := dk_27 (dk_at dksX8_harvest_0 6 rfl rfl)
theorem dX8_harvest_7 : decode cX8_harvest 7 = .ok (.iload_n 2, 1) := dk_28 (dk_at dksX8_harvest_0 7 rfl rfl)
theorem dX8_harvest_8 : decode cX8_harvest 8 = .ok (.invokevirtual 113, 3) := dk_182 0 113 (dk_at dksX8_harvest_0 8 rfl rfl)
theorem dX8_harvest_11 : decode cX8_harvest 11 = .ok (.invokevirtual 104, 3) := dk_182 0 104 (dk_at dksX8_harvest_0 11 rfl rfl)
theorem dX8_harvest_14 : decode cX8_harvest 14 = .ok (.ireturn, 1) := dk_172 (dk_at dksX8_harvest_0 14 rfl rfl)
def dkwX8_harvests_7 : List UInt8 := [104, 96, 4, 96, 92, 46, 21, 4, 96, 79, 21, 4, 172]
abbrev dktX8_harvests_7 : List UInt8 := dkwX8_harvests_7 ++ []
def dkwX8_harvests_6 : List UInt8 := [46, 4, 96, 79, 132, 5, 1, 21, 4, 158, 0, 25, 42, 180, 0, 9, 29, 8, 96, 5, 21, 5, 4, 100]
abbrev dktX8_harvests_6 : List UInt8 := dkwX8_harvests_6 ++ dktX8_harvests_7
def dkwX8_harvests_5 : List UInt8 := [42, 180, 0, 9, 29, 8, 96, 5, 21, 5, 104, 96, 4, 96, 3, 79, 42, 180, 0, 9, 29, 7, 96, 92]
abbrev dktX8_harvests_5 : List UInt8 := dkwX8_harvests_5 ++ dktX8_harvests_6
def dkwX8_harvests_4 : List UInt8 := [159, 0, 55, 42, 180, 0, 9, 29, 8, 96, 5, 21, 5, 104, 96, 42, 180, 0, 9, 17, 1, 172, 46, 79]
abbrev dktX8_harvests_4 : List UInt8 := dkwX8_harvests_4 ++ dktX8_harvests_5
def dkwX8_harvests_3 : List UInt8 := [42, 180, 0, 9, 29, 8, 96, 5, 21, 5, 4, 100, 104, 96, 46, 42, 180, 0, 9, 17, 1, 172, 46]
abbrev dktX8_harvests_3 : List UInt8 := dkwX8_harvests_3 ++ dktX8_harvests_4
def dkwX8_harvests_2 : List UInt8 := [54, 5, 42, 180, 0, 9, 29, 4, 96, 92, 46, 28, 96, 79, 21, 4, 158, 0, 86, 21, 5, 153, 0, 29]
abbrev dktX8_harvests_2 : List UInt8 := dkwX8_harvests_2 ++ dktX8_harvests_3
def dkwX8_harvests_1 : List UInt8 := [4, 16, 23, 27, 104, 96, 62, 42, 27, 28, 182, 0, 110, 54, 4, 42, 180, 0, 9, 29, 7, 96, 46]
abbrev dktX8_harvests_1 : List UInt8 := dkwX8_harvests_1 ++ dktX8_harvests_2
def dkwX8_harvests_0 : List UInt8 := [42, 27, 182, 0, 107, 154, 0, 5, 2, 172, 28, 4, 17, 3, 231, 184, 0, 56, 154, 0, 6, 16, 254, 172]
abbrev dktX8_harvests_0 : List UInt8 := dkwX8_harvests_0 ++ dktX8_harvests_1
theorem dksX8_harvests_0 : cX8_harvests.data.toList.drop 0 = dktX8_harvests_0 := by decide +kernel
theorem dksX8_harvests_1 : cX8_harvests.data.toList.drop 24 = dktX8_harvests_1 := dk_seg dksX8_harvests_0 24 rfl rfl
theorem dksX8_harvests_2 : cX8_harvests.data.toList.drop 47 = dktX8_harvests_2 := dk_seg dksX8_harvests_1 23 rfl rfl
theorem dksX8_harvests_3 : cX8_harvests.data.toList.drop 71 = dktX8_harvests_3 := dk_seg dksX8_harvests_2 24 rfl rfl
theorem dksX8_harvests_4 : cX8_harvests.data.toList.drop 94 = dktX8_harvests_4 := dk_seg dksX8_harvests_3 23 rfl rfl
theorem dksX8_harvests_5 : cX8_harvests.data.toList.drop 118 = dktX8_harvests_5 := dk_seg dksX8_harvests_4 24 rfl rfl
theorem dksX8_harvests_6 : cX8_harvests.data.toList.drop 142 = dktX8_harvests_6 := dk_seg dksX8_harvests_5 24 rfl rfl
theorem dksX8_harvests_7 : cX8_harvests.data.toList.drop 166 = dktX8_harvests_7 := dk_seg dksX8_harvests_6 24 rfl rfl
theorem dX8_harvests_0 : decode cX8_harvests 0 = .ok (.aload_n 0, 1) := dk_42 (dk_at dksX8_harvests_0 0 rfl rfl)
theorem dX8_harvests_1 : decode cX8_harvests 1 = .ok (.iload_n 1, 1) := dk_27 (dk_at dksX8_harvests_0 1 rfl rfl)
theorem dX8_harvests_2 : decode cX8_harvests 2 = .ok (.invokevirtual 107, 3) := dk_182 0 107 (dk_at dksX8_harvests_0 2 rfl rfl)
theorem dX8_harvests_5 : decode cX8_harvests 5 = .ok (.ifCond .ne 5, 3) := dk_154 0 5 (dk_at dksX8_harvests_0 5 rfl rfl)
theorem dX8_harvests_8 : decode cX8_harvests 8 = .ok (.iconst (-1), 1) := dk_2 (dk_at dksX8_harvests_0 8 rfl rfl)
theorem dX8_harvests_9 : decode cX8_harvests 9 = .ok (.ireturn, 1) := dk_172 (dk_at dksX8_harvests_0 9 rfl rfl)
theorem dX8_harvests_10 : decode cX8_harvests 10 = .ok (.iload_n 2, 1) := dk_28 (dk_at dksX8_harvests_0 10 rfl rfl)
theorem dX8_harvests_11 : decode cX8_harvests 11 = .ok (.iconst 1, 1) := dk_4 (dk_at dksX8_harvests_0 11 rfl rfl)
theorem dX8_harvests_12 : decode cX8_harvests 12 = .ok (.sipush 999, 3) := dk_17 3 231 (dk_at dksX8_harvests_0 12 rfl rfl)
theorem dX8_harvests_15 : decode cX8_harvests 15 = .ok (.invokestatic 56, 3) := dk_184 0 56 (dk_at dksX8_harvests_0 15 rfl rfl)
theorem dX8_harvests_18 : decode cX8_harvests 18 = .ok (.ifCond .ne 6, 3) := dk_154 0 6 (dk_at dksX8_harvests_0 18 rfl rfl)
theorem dX8_harvests_21 : decode cX8_harvests 21 = .ok (.bipush (-2), 2) := dk_16 254 (dk_at dksX8_harvests_0 21 rfl rfl)
theorem dX8_harvests_23 : decode cX8_harvests 23 = .ok (.ireturn, 1) := dk_172 (dk_at dksX8_harvests_0 23 rfl rfl)
theorem dX8_harvests_24 : decode cX8_harvests 24 = .ok (.iconst 1, 1) := dk_4 (dk_at dksX8_harvests_1 0 rfl rfl)
theorem dX8_harvests_25 : decode cX8_harvests 25 = .ok (.bipush 23, 2) := dk_16 23 (dk_at dksX8_harvests_1 1 rfl rfl)
theorem dX8_harvests_27 : decode cX8_harvests 27 = .ok (.iload_n 1, 1) := dk_27 (dk_at dksX8_harvests_1 3 rfl rfl)
theorem dX8_harvests_28 : decode cX8_harvests 28 = .ok (.imul, 1) := dk_104 (dk_at dksX8_harvests_1 4 rfl rfl)
theorem dX8_harvests_29 : decode cX8_harvests 29 = .ok (.iadd, 1) := dk_96 (dk_at dksX8_harvests_1 5 rfl rfl)
theorem dX8_harvests_30 : decode cX8_harvests 30 = .ok (.istore_n 3, 1) := dk_62 (dk_at dksX8_harvests_1 6 rfl rfl)
theorem dX8_harvests_31 : decode cX8_harvests 31 = .ok (.aload_n 0, 1) := dk_42 (dk_at dksX8_harvests_1 7 rfl rfl)
theorem dX8_harvests_32 : decode cX8_harvests 32 = .ok (.iload_n 1, 1) := dk_27 (dk_at dksX8_harvests_1 8 rfl rfl)
theorem dX8_harvests_33 : decode cX8_harvests 33 = .ok (.iload_n 2, 1) := dk_28 (dk_at dksX8_harvests_1 9 rfl rfl)
theorem dX8_harvests_34 : decode cX8_harvests 34 = .ok (.invokevirtual 110, 3) := dk_182 0 110 (dk_at dksX8_harvests_1 10 rfl rfl)
theorem dX8_harvests_37 : decode cX8_harvests 37 = .ok (.istore 4, 2) := dk_54 4 (dk_at dksX8_harvests_1 13 rfl rfl)
theorem dX8_harvests_39 : decode cX8_harvests 39 = .ok (.aload_n 0, 1) := dk_42 (dk_at dksX8_harvests_1 15 rfl rfl)
theorem dX8_harvests_40 : decode cX8_harvests 40 = .ok (.getfield 9, 3) := dk_180 0 9 (dk_at dksX8_harvests_1 16 rfl rfl)
theorem dX8_harvests_43 : decode cX8_harvests 43 = .ok (.iload_n 3, 1) := dk_29 (dk_at dksX8_harvests_1 19 rfl rfl)
theorem dX8_harvests_44 : decode cX8_harvests 44 = .ok (.iconst 4, 1) := dk_7 (dk_at dksX8_harvests_1 20 rfl rfl)
theorem dX8_harvests_45 : decode cX8_harvests 45 = .ok (.iadd, 1) := dk_96 (dk_at dksX8_harvests_1 21 rfl rfl)
theorem dX8_harvests_46 : decode cX8_harvests 46 = .ok (.iaload, 1) := dk_46 (dk_at dksX8_harvests_1 22 rfl rfl)
theorem dX8_harvests_47 : decode cX8_harvests 47 = .ok (.istore 5, 2) := dk_54 5 (dk_at dksX8_harvests_2 0 rfl rfl)
theorem dX8_harvests_49 : decode cX8_harvests 49 = .ok (.aload_n 0, 1) := dk_42 (dk_at dksX8_harvests_2 2 rfl rfl)
theorem dX8_harvests_50 : decode cX8_harvests 50 = .ok (.getfield 9, 3) := dk_180 0 9 (dk_at dksX8_harvests_2 3 rfl rfl)
theorem dX8_harvests_53 : decode cX8_harvests 53 = .ok (.iload_n 3, 1) := dk_29 (dk_at dksX8_harvests_2 6 rfl rfl)
theorem dX8_harvests_54 : decode cX8_harvests 54 = .ok (.iconst 1, 1) := dk_4 (dk_at dksX8_harvests_2 7 rfl rfl)
theorem dX8_harvests_55 : decode cX8_harvests 55 = .ok (.iadd, 1) := dk_96 (dk_at dksX8_harvests_2 8 rfl rfl)
theorem dX8_harvests_56 : decode cX8_harvests 56 = .ok (.dup2, 1) := dk_92 (dk_at dksX8_harvests_2 9 rfl rfl)
theorem dX8_harvests_57 : decode cX8_harvests 57 = .ok (.iaload, 1) := dk_46 (dk_at dksX8_harvests_2 10 rfl rfl)
theorem dX8_harvests_58 : decode cX8_harvests 58 = .ok (.iload_n 2, 1) := dk_28 (dk_at dksX8_harvests_2 11 rfl rfl)
theorem dX8_harvests_59 : decode cX8_harvests 59 = .ok (.iadd, 1) := dk_96 (dk_at dksX8_harvests_2 12 rfl rfl)
theorem dX8_harvests_60 : decode cX8_harvests 60 = .ok (.iastore, 1) := dk_79 (dk_at dksX8_harvests_2 13 rfl rfl)
theorem dX8_harvests_61 : decode cX8_harvests 61 = .ok (.iload 4, 2) := dk_21 4 (dk_at dksX8_harvests_2 14 rfl rfl)
theorem dX8_harvests_63 : decode cX8_harvests 63 = .ok (.ifCond .le 86, 3) := dk_158 0 86 (dk_at dksX8_harvests_2 16 rfl rfl)
theorem dX8_harvests_66 : decode cX8_harvests 66 = .ok (.iload 5, 2) := dk_21 5 (dk_at dksX8_harvests_2 19 rfl rfl)
theorem dX8_harvests_68 : decode cX8_harvests 68 = .ok (.ifCond .eq 29, 3) := dk_153 0 29 (dk_at dksX8_harvests_2 21 rfl rfl)
theorem dX8_harvests_71 : decode cX8_harvests 71 = .ok (.aload_n 0, 1) := dk_42 (dk_at dksX8_harvests_3 0 rfl rfl)
theorem dX8_harvests_72 : decode cX8_harvests 72 = .ok (.getfield 9, 3) := dk_180 0 9 (dk_at dksX8_harvests_3 1 rfl rfl)
theorem dX8_harvests_75 : decode cX8_harvests 75 = .ok (.iload_n 3, 1) := dk_29 (dk_at dksX8_harvests_3 4 rfl rfl)
theorem dX8_harvests_76 : decode cX8_harvests 76 = .ok (.iconst 5, 1) := dk_8 (dk_at dksX8_harvests_3 5 rfl rfl)
theorem dX8_harvests_77 : decode cX8_harvests 77 = .ok (.iadd, 1) := dk_96 (dk_at dksX8_harvests_3 6 rfl rfl)
theorem dX8_harvests_78 : decode cX8_harvests 78 = .ok (.iconst 2, 1) := dk_5 (dk_at dksX8_harvests_3 7 rfl rfl)
theorem dX8_harvests_79 : decode cX8_harvests 79 = .ok (.iload 5, 2) := dk_21 5 (dk_at dksX8_harvests_3 8 rfl rfl)
theorem dX8_harvests_81 : decode cX8_harvests 81 = .ok (.iconst 1, 1) := dk_4 (dk_at dksX8_harvests_3 10 rfl rfl)
theorem dX8_harvests_82 : decode cX8_harvests 82 = .ok (.isub, 1) := dk_100 (dk_at dksX8_harvests_3 11 rfl rfl)
theorem dX8_harvests_83 : decode cX8_harvests 83 = .ok (.imul, 1) := dk_104 (dk_at dksX8_harvests_3 12 rfl rfl)
theorem dX8_harvests_84 : decode cX8_harvests 84 = .ok (.iadd, 1) := dk_96 (dk_at dksX8_harvests_3 13 rfl rfl)
theorem dX8_harvests_85 : decode cX8_harvests 85 = .ok (.iaload, 1) := dk_46 (dk_at dksX8_harvests_3 14 rfl rfl)
theorem dX8_harvests_86 : decode cX8_harvests 86 = .ok (.aload_n 0, 1) := dk_42 (dk_at dksX8_harvests_3 15 rfl rfl)
theorem dX8_harvests_87 : decode cX8_harvests 87 = .ok (.getfield 9, 3) := dk_180 0 9 (dk_at dksX8_harvests_3 16 rfl rfl)
theorem dX8_harvests_90 : decode cX8_harvests 90 = .ok (.sipush 428, 3) := dk_17 1 172 (dk_at dksX8_harvests_3 19 rfl rfl)
theorem dX8_harvests_93 : decode cX8_harvests 93 = .ok (.iaload, 1) := dk_46 (dk_at dksX8_harvests_3 22 rfl rfl)
theorem dX8_harvests_94 : decode cX8_harvests 94 = .ok (.if_icmp .eq 55, 3) := dk_159 0 55 (dk_at dksX8_harvests_4 0 rfl rfl)
theorem dX8_harvests_97 : decode cX8_harvests 97 = .ok (.aload_n 0, 1) := dk_42 (dk_at dksX8_harvests_4 3 rfl rfl)
theorem dX8_harvests_98 : decode cX8_harvests 98 = .ok (.getfield 9, 3) := dk_180 0 9 (dk_at dksX8_harvests_4 4 rfl rfl)
theorem dX8_harvests_101 : decode cX8_harvests 101 = .ok (.iload_n 3, 1) := dk_29 (dk_at dksX8_harvests_4 7 rfl rfl)
theorem dX8_harvests_102 : decode cX8_harvests 102 = .ok (.iconst 5, 1) := dk_8 (dk_at dksX8_harvests_4 8 rfl rfl)
theorem dX8_harvests_103 : decode cX8_harvests 103 = .ok (.iadd, 1) := dk_96 (dk_at dksX8_harvests_4 9 rfl rfl)
theorem dX8_harvests_104 : decode cX8_harvests 104 = .ok (.iconst 2, 1) := dk_5 (dk_at dksX8_harvests_4 10 rfl rfl)
theorem dX8_harvests_105 : decode cX8_harvests 105 = .ok (.iload 5, 2) := dk_21 5 (dk_at dksX8_harvests_4 11 rfl rfl)
theorem dX8_harvests_107 : decode cX8_harvests 107 = .ok (.imul, 1) := dk_104 (dk_at dksX8_harvests_4 13 rfl rfl)
theorem dX8_harvests_108 : decode cX8_harvests 108 = .ok (.iadd, 1) := dk_96 (dk_at dksX8_harvests_4 14 rfl rfl)
theorem dX8_harvests_109 : decode cX8_harvests 109 = .ok (.aload_n 0, 1) := dk_42 (dk_at dksX8_harvests_4 15 rfl rfl)
theorem dX8_harvests_110 : decode cX8_harvests 110 = .ok (.getfield 9, 3) := dk_180 0 9 (dk_at dksX8_harvests_4 16 rfl rfl)
theorem dX8_harvests_113 : decode cX8_harvests 113 = .ok (.sipush 428, 3) := dk_17 1 172 (dk_at dksX8_harvests_4 19 rfl rfl)
theorem dX8_harvests_116 : decode cX8_harvests 116 = .ok (.iaload, 1) := dk_46 (dk_at dksX8_harvests_4 22 rfl rfl)
theorem dX8_harvests_117 : decode cX8_harvests 117 = .ok (.iastore, 1) := dk_79 (dk_at dksX8_harvests_4 23 rfl rfl)
theorem dX8_harvests_118 : decode cX8_harvests 118 = .ok (.aload_n 0, 1) := dk_42 (dk_at dksX8_harvests_5 0 rfl rfl)
theorem dX8_harvests_119 : decode cX8_harvests 119 = .ok (.getfield 9, 3) := dk_180 0 9 (dk_at dksX8_harvests_5 1 rfl rfl)
theorem dX8_harvests_122 : decode cX8_harvests 122 = .ok (.iload_n 3, 1) := dk_29 (dk_at dksX8_harvests_5 4 rfl rfl)
theorem dX8_harvests_123 : decode cX8_harvests 123 = .ok (.iconst 5, 1) := dk_8 (dk_at dksX8_harvests_5 5 rfl rfl)
theorem dX8_harvests_124 : decode cX8_harvests 124 = .ok (.iadd, 1) := dk_96 (dk_at dksX8_harvests_5 6 rfl rfl)
theorem dX8_harvests_125 : decode cX8_harvests 125 = .ok (.iconst 2, 1) := dk_5 (dk_at dksX8_harvests_5 7 rfl rfl)
theorem dX8_harvests_126 : decode cX8_harvests 126 = .ok (.iload 5, 2) := dk_21 5 (dk_at dksX8_harvests_5 8 rfl rfl)
theorem dX8_harvests_128 : decode cX8_harvests 128 = .ok (.imul, 1) := dk_104 (dk_at dksX8_harvests_5 10 rfl rfl)
theorem dX8_harvests_129 : decode cX8_harvests 129 = .ok (.iadd, 1) := dk_96 (dk_at dksX8_harvests_5 11 rfl rfl)
theorem dX8_harvests_130 : decode cX8_harvests 130 = .ok (.iconst 1, 1) := dk_4 (dk_at dksX8_harvests_5 12 rfl rfl)
theorem dX8_harvests_131 : decode cX8_harvests 131 = .ok (.iadd, 1) := dk_96 (dk_at dksX8_harvests_5 13 rfl rfl)
theorem dX8_harvests_132 : decode cX8_harvests 132 = .ok (.iconst 0, 1) := dk_3 (dk_at dksX8_harvests_5 14 rfl rfl)
theorem dX8_harvests_133 : decode cX8_harvests 133 = .ok (.iastore, 1) := dk_79 (dk_at dksX8_harvests_5 15 rfl rfl)
theorem dX8_harvests_134 : decode cX8_harvests 134 = .ok (.aload_n 0, 1) := dk_42 (dk_at dksX8_harvests_5 16 rfl rfl)
theorem dX8_harvests_135 : decode cX8_harvests 135 = .ok (.getfield 9, 3) := dk_180 0 9 (dk_at dksX8_harvests_5 17 rfl rfl)
theorem dX8_harvests_138 : decode cX8_harvests 138 = .ok (.iload_n 3, 1) := dk_29 (dk_at dksX8_harvests_5 20 rfl rfl)
theorem dX8_harvests_139 : decode cX8_harvests 139 = .ok (.iconst 4, 1) := dk_7 (dk_at dksX8_harvests_5 21 rfl rfl)
theorem dX8_harvests_140 : decode cX8_harvests 140 = .ok (.iadd, 1) := dk_96 (dk_at dksX8_harvests_5 22 rfl rfl)
theorem dX8_harvests_141 : decode cX8_harvests 141 = .ok (.dup2, 1) := dk_92 (dk_at dksX8_harvests_5 23 rfl rfl)
theorem dX8_harvests_142 : decode cX8_harvests 142 = .ok (.iaload, 1) := dk_46 (dk_at dksX8_harvests_6 0 rfl rfl)
theorem dX8_harvests_143 : decode cX8_harvests 143 = .ok (.iconst 1, 1) := dk_4 (dk_at dksX8_harvests_6 1 rfl rfl)
theorem dX8_harvests_144 : decode cX8_harvests 144 = .ok (.iadd, 1) := dk_96 (dk_at dksX8_harvests_6 2 rfl rfl)
theorem dX8_harvests_145 : decode cX8_harvests 145 = .ok (.iastore, 1) := dk_79 (dk_at dksX8_harvests_6 3 rfl rfl)
theorem dX8_harvests_146 : decode cX8_harvests 146 = .ok (.iinc 5 1, 3) := dk_132 5 1 (dk_at dksX8_harvests_6 4 rfl rfl)
theorem dX8_harvests_149 : decode cX8_harvests 149 = .ok (.iload 4, 2) := dk_21 4 (dk_at dksX8_harvests_6 7 rfl rfl)
theorem dX8_harvests_151 : decode cX8_harvests 151 = .ok (.ifCond .le 25, 3) := dk_158 0 25 (dk_at dksX8_harvests_6 9 rfl rfl)
theorem dX8_harvests_154 : decode cX8_harvests 154 = .ok (.aload_n 0, 1) := dk_42 (dk_at dksX8_harvests_6 12 rfl rfl)
theorem dX8_harvests_155 : decode cX8_harvests 155 = .ok (.getfield 9, 3) := dk_180 0 9 (dk_at dksX8_harvests_6 13 rfl rfl)
theorem dX8_harvests_158 : decode cX8_harvests 158 = .ok (.iload_n 3, 1) := dk_29 (dk_at dksX8_harvests_6 16 rfl rfl)
theorem dX8_harvests_159 : decode cX8_harvests 159 = .ok (.iconst 5, 1) := dk_8 (dk_at dksX8_harvests_6 17 rfl rfl)
theorem dX8_harvests_160 : decode cX8_harvests 160 = .ok (.iadd, 1) := dk_96 (dk_at dksX8_harvests_6 18 rfl rfl)
theorem dX8_harvests_161 : decode cX8_harvests 161 = .ok (.iconst 2, 1) := dk_5 (dk_at dksX8_harvests_6 19 rfl rfl)
theorem dX8_harvests_162 : decode cX8_harvests 162 = .ok (.iload 5, 2) := dk_21 5 (dk_at dksX8_harvests_6 20 rfl rfl)
theorem dX8_harvests_164 : decode cX8_harvests 164 = .ok (.iconst 1, 1) := dk_4 (dk_at dksX8_harvests_6 22 rfl rfl)
theorem dX8_harvests_165 : decode cX8_harvests 165 = .ok (.isub, 1) := dk_100 (dk_at dksX8_harvests_6 23 rfl rfl)
theorem dX8_harvests_166 : decode cX8_harvests 166 = .ok (.imul, 1) := dk_104 (dk_at dksX8_harvests_7 0 rfl rfl)
theorem dX8_harvests_167 : decode cX8_harvests 167 = .ok (.iadd, 1) := dk_96 (dk_at dksX8_harvests_7 1 rfl rfl)
theorem dX8_harvests_168 : decode cX8_harvests 168 = .ok (.iconst 1, 1) := dk_4 (dk_at dksX8_harvests_7 2 rfl rfl)
theorem dX8_harvests_169 : decode cX8_harvests 169 = .ok (.iadd, 1) := dk_96 (dk_at dksX8_harvests_7 3 rfl rfl)
theorem dX8_harvests_170 : decode cX8_harvests 170 = .ok (.dup2, 1) := dk_92 (dk_at dksX8_harvests_7 4 rfl rfl)
theorem dX8_harvests_171 : decode cX8_harvests 171 = .ok (.iaload, 1) := dk_46 (dk_at dksX8_harvests_7 5 rfl rfl)
theorem dX8_harvests_172 : decode cX8_harvests 172 = .ok (.iload 4, 2) := dk_21 4 (dk_at dksX8_harvests_7 6 rfl rfl)
theorem dX8_harvests_174 : decode cX8_harvests 174 = .ok (.iadd, 1) := dk_96 (dk_at dksX8_harvests_7 8 rfl rfl)
theorem dX8_harvests_175 : decode cX8_harvests 175 = .ok (.iastore, 1) := dk_79 (dk_at dksX8_harvests_7 9 rfl rfl)
theorem dX8_harvests_176 : decode cX8_harvests 176 = .ok (.iload 4, 2) := dk_21 4 (dk_at dksX8_harvests_7 10 rfl rfl)
theorem dX8_harvests_178 : decode cX8_harvests 178 = .ok (.ireturn, 1) := dk_172 (dk_at dksX8_harvests_7 12 rfl rfl)
def dkwX8_isParish_0 : List UInt8 := [27, 3, 42, 180, 0, 9, 3, 46, 4, 100, 184, 0, 56, 172]
abbrev dktX8_isParish_0 : List UInt8 := dkwX8_isParish_0 ++ []
theorem dksX8_isParish_0 : cX8_isParish.data.toList.drop 0 = dktX8_isParish_0 := by decide +kernel
theorem dX8_isParish_0 : decode cX8_isParish 0 = .ok (.iload_n 1, 1) := dk_27 (dk_at dksX8_isParish_0 0 rfl rfl)
theorem dX8_isParish_1 : decode cX8_isParish 1 = .ok (.iconst 0, 1) := dk_3 (dk_at dksX8_isParish_0 1 rfl rfl)
theorem dX8_isParish_2 : decode cX8_isParish 2 = .ok (.aload_n 0, 1) := dk_42 (dk_at dksX8_isParish_0 2 rfl rfl)
theorem dX8_isParish_3 : decode cX8_isParish 3 = .ok (.getfield 9, 3) := dk_180 0 9 (dk_at dksX8_isParish_0 3 rfl rfl)
theorem dX8_isParish_6 : decode cX8_isParish 6 = .ok (.iconst 0, 1) := dk_3 (dk_at dksX8_isParish_0 6 rfl rfl)
theorem dX8_isParish_7 : decode cX8_isParish 7 = .ok (.iaload, 1) := dk_46 (dk_at dksX8_isParish_0 7 rfl rfl)
theorem dX8_isParish_8 : decode cX8_isParish 8 = .ok (.iconst 1, 1) := dk_4 (dk_at dksX8_isParish_0 8 rfl rfl)
theorem dX8_isParish_9 : decode cX8_isParish 9 = .ok (.isub, 1) := dk_100 (dk_at dksX8_isParish_0 9 rfl rfl)
theorem dX8_isParish_10 : decode cX8_isParish 10 = .ok (.invokestatic 56, 3) := dk_184 0 56 (dk_at dksX8_isParish_0 10 rfl rfl)
theorem dX8_isParish_13 : decode cX8_isParish 13 = .ok (.ireturn, 1) := dk_172 (dk_at dksX8_isParish_0 13 rfl rfl)
def dkwX8_becomeDue_0 : List UInt8 := [42, 27, 4, 182, 0, 89, 28, 96, 16, 10, 108, 42, 27, 4, 182, 0, 89, 16, 10, 108, 100, 172]
abbrev dktX8_becomeDue_0 : List UInt8 := dkwX8_becomeDue_0 ++ []
theorem dksX8_becomeDue_0 : cX8_becomeDue.data.toList.drop 0 = dktX8_becomeDue_0 := by decide +kernel
theorem dX8_becomeDue_0 : decode cX8_becomeDue 0 = .ok (.aload_n 0, 1) := dk_42 (dk_at dksX8_becomeDue_0 0 rfl rfl)
theorem dX8_becomeDue_1 : decode cX8_becomeDue 1 = .ok (.iload_n 1, 1) := dk_27 (dk_at dksX8_becomeDue_0 1 rfl rfl)
theorem dX8_becomeDue_2 : decode cX8_becomeDue 2 = .ok (.iconst 1, 1) := dk_4 (dk_at dksX8_becomeDue_0 2 rfl rfl)
theorem dX8_becomeDue_3 : decode cX8_becomeDue 3 = .ok (.invokevirtual 89, 3) := dk_182 0 89 (dk_at dksX8_becomeDue_0 3 rfl rfl)
theorem dX8_becomeDue_6 : decode cX8_becomeDue 6 = .ok (.iload_n 2, 1) := dk_28 (dk_at dksX8_becomeDue_0 6 rfl rfl)
theorem dX8_becomeDue_7 : decode cX8_becomeDue 7 = .ok (.iadd, 1) := dk_96 (dk_at dksX8_becomeDue_0 7 rfl rfl)
theorem dX8_becomeDue_8 : decode cX8_becomeDue 8 = .ok (.bipush 10, 2) := dk_16 10 (dk_at dksX8_becomeDue_0 8 rfl rfl)
theorem dX8_becomeDue_10 : decode cX8_becomeDue 10 = .ok (.idiv, 1) := dk_108 (dk_at dksX8_becomeDue_0 10 rfl rfl)
theorem dX8_becomeDue_11 : decode cX8_becomeDue 11 = .ok (.aload_n 0, 1) := dk_42 (dk_at dksX8_becomeDue_0 11 rfl rfl)
theorem dX8_becomeDue_12 : decode cX8_becomeDue 12 = .ok (.iload_n 1, 1) := dk_27 (dk_at dksX8_becomeDue_0 12 rfl rfl)
theorem dX8_becomeDue_13 : decode cX8_becomeDue 13 = .ok (.iconst 1, 1) := dk_4 (dk_at dksX8_becomeDue_0 13 rfl rfl)
theorem dX8_becomeDue_14 : decode cX8_becomeDue 14 = .ok (.invokevirtual 89, 3) := dk_182 0 89 (dk_at dksX8_becomeDue_0 14 rfl rfl)
theorem dX8_becomeDue_17 : decode cX8_becomeDue 17 = .ok (.bipush 10, 2) := dk_16 10 (dk_at dksX8_becomeDue_0 17 rfl rfl)
theorem dX8_becomeDue_19 : decode cX8_becomeDue 19 = .ok (.idiv, 1) := dk_108 (dk_at dksX8_becomeDue_0 19 rfl rfl)
theorem dX8_becomeDue_20 : decode cX8_becomeDue 20 = .ok (.isub, 1) := dk_100 (dk_at dksX8_becomeDue_0 20 rfl rfl)
theorem dX8_becomeDue_21 : decode cX8_becomeDue 21 = .ok (.ireturn, 1) := dk_172 (dk_at dksX8_becomeDue_0 21 rfl rfl)
def dkwX8_of_0 : List UInt8 := [42, 180, 0, 9, 4, 16, 23, 27, 104, 96, 28, 96, 46, 172]
abbrev dktX8_of_0 : List UInt8 := dkwX8_of_0 ++ []
theorem dksX8_of_0 : cX8_of.data.toList.drop 0 = dktX8_of_0 := by decide +kernel
theorem dX8_of_0 : decode cX8_of 0 = .ok (.aload_n 0, 1) := dk_42 (dk_at dksX8_of_0 0 rfl rfl)
theorem dX8_of_1 : decode cX8_of 1 = .ok (.getfield 9, 3) := dk_180 0 9 (dk_at dksX8_of_0 1 rfl rfl)
theorem dX8_of_4 : decode cX8_of 4 = .ok (.iconst 1, 1) := dk_4 (dk_at dksX8_of_0 4 rfl rfl)
theorem dX8_of_5 : decode cX8_of 5 = .ok (.bipush 23, 2) := dk_16 23 (dk_at dksX8_of_0 5 rfl rfl)
theorem dX8_of_7 : decode cX8_of 7 = .ok (.iload_n 1, 1) := dk_27 (dk_at dksX8_of_0 7 rfl rfl)
theorem dX8_of_8 : decode cX8_of 8 = .ok (.imul, 1) := dk_104 (dk_at dksX8_of_0 8 rfl rfl)
theorem dX8_of_9 : decode cX8_of 9 = .ok (.iadd, 1) := dk_96 (dk_at dksX8_of_0 9 rfl rfl)
theorem dX8_of_10 : decode cX8_of 10 = .ok (.iload_n 2, 1) := dk_28 (dk_at dksX8_of_0 10 rfl rfl)
theorem dX8_of_11 : decode cX8_of 11 = .ok (.iadd, 1) := dk_96 (dk_at dksX8_of_0 11 rfl rfl)
theorem dX8_of_12 : decode cX8_of 12 = .ok (.iaload, 1) := dk_46 (dk_at dksX8_of_0 12 rfl rfl)
theorem dX8_of_13 : decode cX8_of 13 = .ok (.ireturn, 1) := dk_172 (dk_at dksX8_of_0 13 rfl rfl)
def dkwX8_tithe_1 : List UInt8 := [27, 28, 182, 0, 110, 167, 0, 5, 16, 254, 172]
abbrev dktX8_tithe_1 : List UInt8 := dkwX8_tithe_1 ++ []
def dkwX8_tithe_0 : List UInt8 := [42, 27, 182, 0, 107, 154, 0, 7, 2, 167, 0, 25, 28, 4, 17, 3, 231, 184, 0, 56, 153, 0, 12, 42]
abbrev dktX8_tithe_0 : List UInt8 := dkwX8_tithe_0 ++ dktX8_tithe_1
theorem dksX8_tithe_0 : cX8_tithe.data.toList.drop 0 = dktX8_tithe_0 := by decide +kernel
theorem dksX8_tithe_1 : cX8_tithe.data.toList.drop 24 = dktX8_tithe_1 := dk_seg dksX8_tithe_0 24 rfl rfl
theorem dX8_tithe_0 : decode cX8_tithe 0 = .ok (.aload_n 0, 1) := dk_42 (dk_at dksX8_tithe_0 0 rfl rfl)
theorem dX8_tithe_1 : decode cX8_tithe 1 = .ok (.iload_n 1, 1) := dk_27 (dk_at dksX8_tithe_0 1 rfl rfl)
theorem dX8_tithe_2 : decode cX8_tithe 2 = .ok (.invokevirtual 107, 3) := dk_182 0 107 (dk_at dksX8_tithe_0 2 rfl rfl)
theorem dX8_tithe_5 : decode cX8_tithe 5 = .ok (.ifCond .ne 7, 3) := dk_154 0 7 (dk_at dksX8_tithe_0 5 rfl rfl)
theorem dX8_tithe_8 : decode cX8_tithe 8 = .ok (.iconst (-1), 1) := dk_2 (dk_at dksX8_tithe_0 8 rfl rfl)
theorem dX8_tithe_9 : decode cX8_tithe 9 = .ok (.goto 25, 3) := dk_167 0 25 (dk_at dksX8_tithe_0 9 rfl rfl)
theorem dX8_tithe_12 : decode cX8_tithe 12 = .ok (.iload_n 2, 1) := dk_28 (dk_at dksX8_tithe_0 12 rfl rfl)
theorem dX8_tithe_13 : decode cX8_tithe 13 = .ok (.iconst 1, 1) := dk_4 (dk_at dksX8_tithe_0 13 rfl rfl)
theorem dX8_tithe_14 : decode cX8_tithe 14 = .ok (.sipush 999, 3) := dk_17 3 231 (dk_at dksX8_tithe_0 14 rfl rfl)
theorem dX8_tithe_17 : decode cX8_tithe 17 = .ok (.invokestatic 56, 3) := dk_184 0 56 (dk_at dksX8_tithe_0 17 rfl rfl)
theorem dX8_tithe_20 : decode cX8_tithe 20 = .ok (.ifCond .eq 12, 3) := dk_153 0 12 (dk_at dksX8_tithe_0 20 rfl rfl)
theorem dX8_tithe_23 : decode cX8_tithe 23 = .ok (.aload_n 0, 1) := dk_42 (dk_at dksX8_tithe_0 23 rfl rfl)
theorem dX8_tithe_24 : decode cX8_tithe 24 = .ok (.iload_n 1, 1) := dk_27 (dk_at dksX8_tithe_1 0 rfl rfl)
theorem dX8_tithe_25 : decode cX8_tithe 25 = .ok (.iload_n 2, 1) := dk_28 (dk_at dksX8_tithe_1 1 rfl rfl)
theorem dX8_tithe_26 : decode cX8_tithe 26 = .ok (.invokevirtual 110, 3) := dk_182 0 110 (dk_at dksX8_tithe_1 2 rfl rfl)
theorem dX8_tithe_29 : decode cX8_tithe 29 = .ok (.goto 5, 3) := dk_167 0 5 (dk_at dksX8_tithe_1 5 rfl rfl)
theorem dX8_tithe_32 : decode cX8_tithe 32 = .ok (.bipush (-2), 2) := dk_16 254 (dk_at dksX8_tithe_1 8 rfl rfl)
theorem dX8_tithe_34 : decode cX8_tithe 34 = .ok (.ireturn, 1) := dk_172 (dk_at dksX8_tithe_1 10 rfl rfl)
def dkwX8_titheAgain_0 : List UInt8 := [42, 27, 28, 182, 0, 116, 172]
abbrev dktX8_titheAgain_0 : List UInt8 := dkwX8_titheAgain_0 ++ []
theorem dksX8_titheAgain_0 : cX8_titheAgain.data.toList.drop 0 = dktX8_titheAgain_0 := by decide +kernel
theorem dX8_titheAgain_0 : decode cX8_titheAgain 0 = .ok (.aload_n 0, 1) := dk_42 (dk_at dksX8_titheAgain_0 0 rfl rfl)
theorem dX8_titheAgain_1 : decode cX8_titheAgain 1 = .ok (.iload_n 1, 1) := dk_27 (dk_at dksX8_titheAgain_0 1 rfl rfl)
theorem dX8_titheAgain_2 : decode cX8_titheAgain 2 = .ok (.iload_n 2, 1) := dk_28 (dk_at dksX8_titheAgain_0 2 rfl rfl)
theorem dX8_titheAgain_3 : decode cX8_titheAgain 3 = .ok (.invokevirtual 116, 3) := dk_182 0 116 (dk_at dksX8_titheAgain_0 3 rfl rfl)
theorem dX8_titheAgain_6 : decode cX8_titheAgain 6 = .ok (.ireturn, 1) := dk_172 (dk_at dksX8_titheAgain_0 6 rfl rfl)
def dkwX8_cart_0 : List UInt8 := [42, 182, 0, 97, 42, 42, 27, 28, 29, 182, 0, 137, 182, 0, 104, 172]
abbrev dktX8_cart_0 : List UInt8 := dkwX8_cart_0 ++ []
theorem dksX8_cart_0 : cX8_cart.data.toList.drop 0 = dktX8_cart_0 := by decide +kernel
theorem dX8_cart_0 : decode cX8_cart 0 = .ok (.aload_n 0, 1) := dk_42 (dk_at dksX8_cart_0 0 rfl rfl)
theorem dX8_cart_1 : decode cX8_cart 1 = .ok (.invokevirtual 97, 3) := dk_182 0 97 (dk_at dksX8_cart_0 1 rfl rfl)
theorem dX8_cart_4 : decode cX8_cart 4 = .ok (.aload_n 0, 1) := dk_42 (dk_at dksX8_cart_0 4 rfl rfl)
theorem dX8_cart_5 : decode cX8_cart 5 = .ok (.aload_n 0, 1) := dk_42 (dk_at dksX8_cart_0 5 rfl rfl)
theorem dX8_cart_6 : decode cX8_cart 6 = .ok (.iload_n 1, 1) := dk_27 (dk_at dksX8_cart_0 6 rfl rfl)
theorem dX8_cart_7 : decode cX8_cart 7 = .ok (.iload_n 2, 1) := dk_28 (dk_at dksX8_cart_0 7 rfl rfl)
theorem dX8_cart_8 : decode cX8_cart 8 = .ok (.iload_n 3, 1) := dk_29 (dk_at dksX8_cart_0 8 rfl rfl)
theorem dX8_cart_9 : decode cX8_cart 9 = .ok (.invokevirtual 137, 3) := dk_182 0 137 (dk_at dksX8_cart_0 9 rfl rfl)
theorem dX8_cart_12 : decode cX8_cart 12 = .ok (.invokevirtual 104, 3) := dk_182 0 104 (dk_at dksX8_cart_0 12 rfl rfl)
theorem dX8_cart_15 : decode cX8_cart 15 = .ok (.ireturn, 1) := dk_172 (dk_at dksX8_cart_0 15 rfl rfl)
def dkwX8_carts_9 : List UInt8 := [46, 28, 42, 27, 3, 182, 0, 89, 184, 0, 134, 104, 96, 79, 42, 29, 182, 0, 128, 172]
abbrev dktX8_carts_9 : List UInt8 := dkwX8_carts_9 ++ []
def dkwX8_carts_8 : List UInt8 := [167, 255, 177, 42, 180, 0, 9, 21, 4, 6, 96, 92, 46, 28, 96, 79, 42, 180, 0, 9, 17, 1, 174, 92]
abbrev dktX8_carts_8 : List UInt8 := dkwX8_carts_8 ++ dktX8_carts_9
def dkwX8_carts_7 : List UInt8 := [27, 79, 42, 180, 0, 9, 17, 0, 139, 16, 61, 29, 104, 96, 92, 46, 4, 96, 79, 132, 5, 255]
abbrev dktX8_carts_7 : List UInt8 := dkwX8_carts_7 ++ dktX8_carts_8
def dkwX8_carts_6 : List UInt8 := [27, 182, 0, 131, 42, 180, 0, 9, 17, 0, 139, 16, 61, 29, 104, 96, 4, 96, 42, 29, 182, 0, 128, 96]
abbrev dktX8_carts_6 : List UInt8 := dkwX8_carts_6 ++ dktX8_carts_7
def dkwX8_carts_5 : List UInt8 := [21, 4, 16, 6, 96, 92, 46, 4, 100, 79, 42, 180, 0, 9, 21, 4, 16, 6, 96, 46, 154, 0, 8, 42]
abbrev dktX8_carts_5 : List UInt8 := dkwX8_carts_5 ++ dktX8_carts_6
def dkwX8_carts_4 : List UInt8 := [182, 0, 100, 172, 4, 16, 23, 27, 104, 96, 54, 4, 28, 54, 5, 21, 5, 158, 0, 80, 42, 180, 0, 9]
abbrev dktX8_carts_4 : List UInt8 := dkwX8_carts_4 ++ dktX8_carts_5
def dkwX8_carts_3 : List UInt8 := [16, 60, 42, 29, 182, 0, 128, 100, 28, 162, 0, 19, 42, 6, 16, 60, 42, 29, 182, 0, 128, 100, 3, 3]
abbrev dktX8_carts_3 : List UInt8 := dkwX8_carts_3 ++ dktX8_carts_4
def dkwX8_carts_2 : List UInt8 := [5, 182, 0, 89, 158, 0, 8, 16, 12, 167, 0, 4, 3, 42, 27, 5, 182, 0, 89, 182, 0, 100, 172]
abbrev dktX8_carts_2 : List UInt8 := dkwX8_carts_2 ++ dktX8_carts_3
def dkwX8_carts_1 : List UInt8 := [154, 0, 6, 16, 254, 172, 42, 27, 182, 0, 125, 28, 162, 0, 35, 42, 5, 42, 27, 182, 0, 125, 42, 27]
abbrev dktX8_carts_1 : List UInt8 := dkwX8_carts_1 ++ dktX8_carts_2
def dkwX8_carts_0 : List UInt8 := [42, 27, 182, 0, 107, 153, 0, 10, 29, 184, 0, 122, 154, 0, 5, 2, 172, 28, 4, 16, 60, 184, 0, 56]
abbrev dktX8_carts_0 : List UInt8 := dkwX8_carts_0 ++ dktX8_carts_1
theorem dksX8_carts_0 : cX8_carts.data.toList.drop 0 = dktX8_carts_0 := by decide +kernel
theorem dksX8_carts_1 : cX8_carts.data.toList.drop 24 = dktX8_carts_1 := dk_seg dksX8_carts_0 24 rfl rfl
theorem dksX8_carts_2 : cX8_carts.data.toList.drop 48 = dktX8_carts_2 := dk_seg dksX8_carts_1 24 rfl rfl
theorem dksX8_carts_3 : cX8_carts.data.toList.drop 71 = dktX8_carts_3 := dk_seg dksX8_carts_2 23 rfl rfl
theorem dksX8_carts_4 : cX8_carts.data.toList.drop 95 = dktX8_carts_4 := dk_seg dksX8_carts_3 24 rfl rfl
theorem dksX8_carts_5 : cX8_carts.data.toList.drop 119 = dktX8_carts_5 := dk_seg dksX8_carts_4 24 rfl rfl
theorem dksX8_carts_6 : cX8_carts.data.toList.drop 143 = dktX8_carts_6 := dk_seg dksX8_carts_5 24 rfl rfl
theorem dksX8_carts_7 : cX8_carts.data.toList.drop 167 = dktX8_carts_7 := dk_seg dksX8_carts_6 24 rfl rfl
theorem dksX8_carts_8 : cX8_carts.data.toList.drop 189 = dktX8_carts_8 := dk_seg dksX8_carts_7 22 rfl rfl
theorem dksX8_carts_9 : cX8_carts.data.toList.drop 213 = dktX8_carts_9 := dk_seg dksX8_carts_8 24 rfl rfl
theorem dX8_carts_0 : decode cX8_carts 0 = .ok (.aload_n 0, 1) := dk_42 (dk_at dksX8_carts_0 0 rfl rfl)
theorem dX8_carts_1 : decode cX8_carts 1 = .ok (.iload_n 1, 1) := dk_27 (dk_at dksX8_carts_0 1 rfl rfl)
theorem dX8_carts_2 : decode cX8_carts 2 = .ok (.invokevirtual 107, 3) := dk_182 0 107 (dk_at dksX8_carts_0 2 rfl rfl)
theorem dX8_carts_5 : decode cX8_carts 5 = .ok (.ifCond .eq 10, 3) := dk_153 0 10 (dk_at dksX8_carts_0 5 rfl rfl)
theorem dX8_carts_8 : decode cX8_carts 8 = .ok (.iload_n 3, 1) := dk_29 (dk_at dksX8_carts_0 8 rfl rfl)
theorem dX8_carts_9 : decode cX8_carts 9 = .ok (.invokestatic 122, 3) := dk_184 0 122 (dk_at dksX8_carts_0 9 rfl rfl)
theorem dX8_carts_12 : decode cX8_carts 12 = .ok (.ifCond .ne 5, 3) := dk_154 0 5 (dk_at dksX8_carts_0 12 rfl rfl)
theorem dX8_carts_15 : decode cX8_carts 15 = .ok (.iconst (-1), 1) := dk_2 (dk_at dksX8_carts_0 15 rfl rfl)
theorem dX8_carts_16 : decode cX8_carts 16 = .ok (.ireturn, 1) := dk_172 (dk_at dksX8_carts_0 16 rfl rfl)
theorem dX8_carts_17 : decode cX8_carts 17 = .ok (.iload_n 2, 1) := dk_28 (dk_at dksX8_carts_0 17 rfl rfl)
theorem dX8_carts_18 : decode cX8_carts 18 = .ok (.iconst 1, 1) := dk_4 (dk_at dksX8_carts_0 18 rfl rfl)
theorem dX8_carts_19 : decode cX8_carts 19 = .ok (.bipush 60, 2) := dk_16 60 (dk_at dksX8_carts_0 19 rfl rfl)
theorem dX8_carts_21 : decode cX8_carts 21 = .ok (.invokestatic 56, 3) := dk_184 0 56 (dk_at dksX8_carts_0 21 rfl rfl)
theorem dX8_carts_24 : decode cX8_carts 24 = .ok (.ifCond .ne 6, 3) := dk_154 0 6 (dk_at dksX8_carts_1 0 rfl rfl)
theorem dX8_carts_27 : decode cX8_carts 27 = .ok (.bipush (-2), 2) := dk_16 254 (dk_at dksX8_carts_1 3 rfl rfl)
theorem dX8_carts_29 : decode cX8_carts 29 = .ok (.ireturn, 1) := dk_172 (dk_at dksX8_carts_1 5 rfl rfl)
theorem dX8_carts_30 : decode cX8_carts 30 = .ok (.aload_n 0, 1) := dk_42 (dk_at dksX8_carts_1 6 rfl rfl)
theorem dX8_carts_31 : decode cX8_carts 31 = .ok (.iload_n 1, 1) := dk_27 (dk_at dksX8_carts_1 7 rfl rfl)
theorem dX8_carts_32 : decode cX8_carts 32 = .ok (.invokevirtual 125, 3) := dk_182 0 125 (dk_at dksX8_carts_1 8 rfl rfl)
theorem dX8_carts_35 : decode cX8_carts 35 = .ok (.iload_n 2, 1) := dk_28 (dk_at dksX8_carts_1 11 rfl rfl)
theorem dX8_carts_36 : decode cX8_carts 36 = .ok (.if_icmp .ge 35, 3) := dk_162 0 35 (dk_at dksX8_carts_1 12 rfl rfl)
theorem dX8_carts_39 : decode cX8_carts 39 = .ok (.aload_n 0, 1) := dk_42 (dk_at dksX8_carts_1 15 rfl rfl)
theorem dX8_carts_40 : decode cX8_carts 40 = .ok (.iconst 2, 1) := dk_5 (dk_at dksX8_carts_1 16 rfl rfl)
theorem dX8_carts_41 : decode cX8_carts 41 = .ok (.aload_n 0, 1) := dk_42 (dk_at dksX8_carts_1 17 rfl rfl)
theorem dX8_carts_42 : decode cX8_carts 42 = .ok (.iload_n 1, 1) := dk_27 (dk_at dksX8_carts_1 18 rfl rfl)
theorem dX8_carts_43 : decode cX8_carts 43 = .ok (.invokevirtual 125, 3) := dk_182 0 125 (dk_at dksX8_carts_1 19 rfl rfl)
theorem dX8_carts_46 : decode cX8_carts 46 = .ok (.aload_n 0, 1) := dk_42 (dk_at dksX8_carts_1 22 rfl rfl)
theorem dX8_carts_47 : decode cX8_carts 47 = .ok (.iload_n 1, 1) := dk_27 (dk_at dksX8_carts_1 23 rfl rfl)
theorem dX8_carts_48 : decode cX8_carts 48 = .ok (.iconst 2, 1) := dk_5 (dk_at dksX8_carts_2 0 rfl rfl)
theorem dX8_carts_49 : decode cX8_carts 49 = .ok (.invokevirtual 89, 3) := dk_182 0 89 (dk_at dksX8_carts_2 1 rfl rfl)
theorem dX8_carts_52 : decode cX8_carts 52 = .ok (.ifCond .le 8, 3) := dk_158 0 8 (dk_at dksX8_carts_2 4 rfl rfl)
theorem dX8_carts_55 : decode cX8_carts 55 = .ok (.bipush 12, 2) := dk_16 12 (dk_at dksX8_carts_2 7 rfl rfl)
theorem dX8_carts_57 : decode cX8_carts 57 = .ok (.goto 4, 3) := dk_167 0 4 (dk_at dksX8_carts_2 9 rfl rfl)
theorem dX8_carts_60 : decode cX8_carts 60 = .ok (.iconst 0, 1) := dk_3 (dk_at dksX8_carts_2 12 rfl rfl)
theorem dX8_carts_61 : decode cX8_carts 61 = .ok (.aload_n 0, 1) := dk_42 (dk_at dksX8_carts_2 13 rfl rfl)
theorem dX8_carts_62 : decode cX8_carts 62 = .ok (.iload_n 1, 1) := dk_27 (dk_at dksX8_carts_2 14 rfl rfl)
theorem dX8_carts_63 : decode cX8_carts 63 = .ok (.iconst 2, 1) := dk_5 (dk_at dksX8_carts_2 15 rfl rfl)
theorem dX8_carts_64 : decode cX8_carts 64 = .ok (.invokevirtual 89, 3) := dk_182 0 89 (dk_at dksX8_carts_2 16 rfl rfl)
theorem dX8_carts_67 : decode cX8_carts 67 = .ok (.invokevirtual 100, 3) := dk_182 0 100 (dk_at dksX8_carts_2 19 rfl rfl)
theorem dX8_carts_70 : decode cX8_carts 70 = .ok (.ireturn, 1) := dk_172 (dk_at dksX8_carts_2 22 rfl rfl)
theorem dX8_carts_71 : decode cX8_carts 71 = .ok (.bipush 60, 2) := dk_16 60 (dk_at dksX8_carts_3 0 rfl rfl)
theorem dX8_carts_73 : decode cX8_carts 73 = .ok (.aload_n 0, 1) := dk_42 (dk_at dksX8_carts_3 2 rfl rfl)
theorem dX8_carts_74 : decode cX8_carts 74 = .ok (.iload_n 3, 1) := dk_29 (dk_at dksX8_carts_3 3 rfl rfl)
theorem dX8_carts_75 : decode cX8_carts 75 = .ok (.invokevirtual 128, 3) := dk_182 0 128 (dk_at dksX8_carts_3 4 rfl rfl)
theorem dX8_carts_78 : decode cX8_carts 78 = .ok (.isub, 1) := dk_100 (dk_at dksX8_carts_3 7 rfl rfl)
theorem dX8_carts_79 : decode cX8_carts 79 = .ok (.iload_n 2, 1) := dk_28 (dk_at dksX8_carts_3 8 rfl rfl)
theorem dX8_carts_80 : decode cX8_carts 80 = .ok (.if_icmp .ge 19, 3) := dk_162 0 19 (dk_at dksX8_carts_3 9 rfl rfl)
theorem dX8_carts_83 : decode cX8_carts 83 = .ok (.aload_n 0, 1) := dk_42 (dk_at dksX8_carts_3 12 rfl rfl)
theorem dX8_carts_84 : decode cX8_carts 84 = .ok (.iconst 3, 1) := dk_6 (dk_at dksX8_carts_3 13 rfl rfl)
theorem dX8_carts_85 : decode cX8_carts 85 = .ok (.bipush 60, 2) := dk_16 60 (dk_at dksX8_carts_3 14 rfl rfl)
theorem dX8_carts_87 : decode cX8_carts 87 = .ok (.aload_n 0, 1) := dk_42 (dk_at dksX8_carts_3 16 rfl rfl)
theorem dX8_carts_88 : decode cX8_carts 88 = .ok (.iload_n 3, 1) := dk_29 (dk_at dksX8_carts_3 17 rfl rfl)
theorem dX8_carts_89 : decode cX8_carts 89 = .ok (.invokevirtual 128, 3) := dk_182 0 128 (dk_at dksX8_carts_3 18 rfl rfl)
theorem dX8_carts_92 : decode cX8_carts 92 = .ok (.isub, 1) := dk_100 (dk_at dksX8_carts_3 21 rfl rfl)
theorem dX8_carts_93 : decode cX8_carts 93 = .ok (.iconst 0, 1) := dk_3 (dk_at dksX8_carts_3 22 rfl rfl)
theorem dX8_carts_94 : decode cX8_carts 94 = .ok (.iconst 0, 1) := dk_3 (dk_at dksX8_carts_3 23 rfl rfl)
theorem dX8_carts_95 : decode cX8_carts 95 = .ok (.invokevirtual 100, 3) := dk_182 0 100 (dk_at dksX8_carts_4 0 rfl rfl)
theorem dX8_carts_98 : decode cX8_carts 98 = .ok (.ireturn, 1) := dk_172 (dk_at dksX8_carts_4 3 rfl rfl)
theorem dX8_carts_99 : decode cX8_carts 99 = .ok (.iconst 1, 1) := dk_4 (dk_at dksX8_carts_4 4 rfl rfl)
theorem dX8_carts_100 : decode cX8_carts 100 = .ok (.bipush 23, 2) := dk_16 23 (dk_at dksX8_carts_4 5 rfl rfl)
theorem dX8_carts_102 : decode cX8_carts 102 = .ok (.iload_n 1, 1) := dk_27 (dk_at dksX8_carts_4 7 rfl rfl)
theorem dX8_carts_103 : decode cX8_carts 103 = .ok (.imul, 1) := dk_104 (dk_at dksX8_carts_4 8 rfl rfl)
theorem dX8_carts_104 : decode cX8_carts 104 = .ok (.iadd, 1) := dk_96 (dk_at dksX8_carts_4 9 rfl rfl)
theorem dX8_carts_105 : decode cX8_carts 105 = .ok (.istore 4, 2) := dk_54 4 (dk_at dksX8_carts_4 10 rfl rfl)
theorem dX8_carts_107 : decode cX8_carts 107 = .ok (.iload_n 2, 1) := dk_28 (dk_at dksX8_carts_4 12 rfl rfl)
theorem dX8_carts_108 : decode cX8_carts 108 = .ok (.istore 5, 2) := dk_54 5 (dk_at dksX8_carts_4 13 rfl rfl)
theorem dX8_carts_110 : decode cX8_carts 110 = .ok (.iload 5, 2) := dk_21 5 (dk_at dksX8_carts_4 15 rfl rfl)
theorem dX8_carts_112 : decode cX8_carts 112 = .ok (.ifCond .le 80, 3) := dk_158 0 80 (dk_at dksX8_carts_4 17 rfl rfl)
theorem dX8_carts_115 : decode cX8_carts 115 = .ok (.aload_n 0, 1) := dk_42 (dk_at dksX8_carts_4 20 rfl rfl)
theorem dX8_carts_116 : decode cX8_carts 116 = .ok (.getfield 9, 3) := dk_180 0 9 (dk_at dksX8_carts_4 21 rfl rfl)
theorem dX8_carts_119 : decode cX8_carts 119 = .ok (.iload 4, 2) := dk_21 4 (dk_at dksX8_carts_5 0 rfl rfl)
theorem dX8_carts_121 : decode cX8_carts 121 = .ok (.bipush 6, 2) := dk_16 6 (dk_at dksX8_carts_5 2 rfl rfl)
theorem dX8_carts_123 : decode cX8_carts 123 = .ok (.iadd, 1) := dk_96 (dk_at dksX8_carts_5 4 rfl rfl)
theorem dX8_carts_124 : decode cX8_carts 124 = .ok (.dup2, 1) := dk_92 (dk_at dksX8_carts_5 5 rfl rfl)
theorem dX8_carts_125 : decode cX8_carts 125 = .ok (.iaload, 1) := dk_46 (dk_at dksX8_carts_5 6 rfl rfl)
theorem dX8_carts_126 : decode cX8_carts 126 = .ok (.iconst 1, 1) := dk_4 (dk_at dksX8_carts_5 7 rfl rfl)
theorem dX8_carts_127 : decode cX8_carts 127 = .ok (.isub, 1) := dk_100 (dk_at dksX8_carts_5 8 rfl rfl)
theorem dX8_carts_128 : decode cX8_carts 128 = .ok (.iastore, 1) := dk_79 (dk_at dksX8_carts_5 9 rfl rfl)
theorem dX8_carts_129 : decode cX8_carts 129 = .ok (.aload_n 0, 1) := dk_42 (dk_at dksX8_carts_5 10 rfl rfl)
theorem dX8_carts_130 : decode cX8_carts 130 = .ok (.getfield 9, 3) := dk_180 0 9 (dk_at dksX8_carts_5 11 rfl rfl)
theorem dX8_carts_133 : decode cX8_carts 133 = .ok (.iload 4, 2) := dk_21 4 (dk_at dksX8_carts_5 14 rfl rfl)
theorem dX8_carts_135 : decode cX8_carts 135 = .ok (.bipush 6, 2) := dk_16 6 (dk_at dksX8_carts_5 16 rfl rfl)
theorem dX8_carts_137 : decode cX8_carts 137 = .ok (.iadd, 1) := dk_96 (dk_at dksX8_carts_5 18 rfl rfl)
theorem dX8_carts_138 : decode cX8_carts 138 = .ok (.iaload, 1) := dk_46 (dk_at dksX8_carts_5 19 rfl rfl)
theorem dX8_carts_139 : decode cX8_carts 139 = .ok (.ifCond .ne 8, 3) := dk_154 0 8 (dk_at dksX8_carts_5 20 rfl rfl)
theorem dX8_carts_142 : decode cX8_carts 142 = .ok (.aload_n 0, 1) := dk_42 (dk_at dksX8_carts_5 23 rfl rfl)
theorem dX8_carts_143 : decode cX8_carts 143 = .ok (.iload_n 1, 1) := dk_27 (dk_at dksX8_carts_6 0 rfl rfl)
theorem dX8_carts_144 : decode cX8_carts 144 = .ok (.invokevirtual 131, 3) := dk_182 0 131 (dk_at dksX8_carts_6 1 rfl rfl)
theorem dX8_carts_147 : decode cX8_carts 147 = .ok (.aload_n 0, 1) := dk_42 (dk_at dksX8_carts_6 4 rfl rfl)
theorem dX8_carts_148 : decode cX8_carts 148 = .ok (.getfield 9, 3) := dk_180 0 9 (dk_at dksX8_carts_6 5 rfl rfl)
theorem dX8_carts_151 : decode cX8_carts 151 = .ok (.sipush 139, 3) := dk_17 0 139 (dk_at dksX8_carts_6 8 rfl rfl)
theorem dX8_carts_154 : decode cX8_carts 154 = .ok (.bipush 61, 2) := dk_16 61 (dk_at dksX8_carts_6 11 rfl rfl)
theorem dX8_carts_156 : decode cX8_carts 156 = .ok (.iload_n 3, 1) := dk_29 (dk_at dksX8_carts_6 13 rfl rfl)
theorem dX8_carts_157 : decode cX8_carts 157 = .ok (.imul, 1) := dk_104 (dk_at dksX8_carts_6 14 rfl rfl)
theorem dX8_carts_158 : decode cX8_carts 158 = .ok (.iadd, 1) := dk_96 (dk_at dksX8_carts_6 15 rfl rfl)
theorem dX8_carts_159 : decode cX8_carts 159 = .ok (.iconst 1, 1) := dk_4 (dk_at dksX8_carts_6 16 rfl rfl)
theorem dX8_carts_160 : decode cX8_carts 160 = .ok (.iadd, 1) := dk_96 (dk_at dksX8_carts_6 17 rfl rfl)
theorem dX8_carts_161 : decode cX8_carts 161 = .ok (.aload_n 0, 1) := dk_42 (dk_at dksX8_carts_6 18 rfl rfl)
theorem dX8_carts_162 : decode cX8_carts 162 = .ok (.iload_n 3, 1) := dk_29 (dk_at dksX8_carts_6 19 rfl rfl)
theorem dX8_carts_163 : decode cX8_carts 163 = .ok (.invokevirtual 128, 3) := dk_182 0 128 (dk_at dksX8_carts_6 20 rfl rfl)
theorem dX8_carts_166 : decode cX8_carts 166 = .ok (.iadd, 1) := dk_96 (dk_at dksX8_carts_6 23 rfl rfl)
theorem dX8_carts_167 : decode cX8_carts 167 = .ok (.iload_n 1, 1) := dk_27 (dk_at dksX8_carts_7 0 rfl rfl)
theorem dX8_carts_168 : decode cX8_carts 168 = .ok (.iastore, 1) := dk_79 (dk_at dksX8_carts_7 1 rfl rfl)
theorem dX8_carts_169 : decode cX8_carts 169 = .ok (.aload_n 0, 1) := dk_42 (dk_at dksX8_carts_7 2 rfl rfl)
theorem dX8_carts_170 : decode cX8_carts 170 = .ok (.getfield 9, 3) := dk_180 0 9 (dk_at dksX8_carts_7 3 rfl rfl)
theorem dX8_carts_173 : decode cX8_carts 173 = .ok (.sipush 139, 3) := dk_17 0 139 (dk_at dksX8_carts_7 6 rfl rfl)
theorem dX8_carts_176 : decode cX8_carts 176 = .ok (.bipush 61, 2) := dk_16 61 (dk_at dksX8_carts_7 9 rfl rfl)
theorem dX8_carts_178 : decode cX8_carts 178 = .ok (.iload_n 3, 1) := dk_29 (dk_at dksX8_carts_7 11 rfl rfl)
theorem dX8_carts_179 : decode cX8_carts 179 = .ok (.imul, 1) := dk_104 (dk_at dksX8_carts_7 12 rfl rfl)
theorem dX8_carts_180 : decode cX8_carts 180 = .ok (.iadd, 1) := dk_96 (dk_at dksX8_carts_7 13 rfl rfl)
theorem dX8_carts_181 : decode cX8_carts 181 = .ok (.dup2, 1) := dk_92 (dk_at dksX8_carts_7 14 rfl rfl)
theorem dX8_carts_182 : decode cX8_carts 182 = .ok (.iaload, 1) := dk_46 (dk_at dksX8_carts_7 15 rfl rfl)
theorem dX8_carts_183 : decode cX8_carts 183 = .ok (.iconst 1, 1) := dk_4 (dk_at dksX8_carts_7 16 rfl rfl)
theorem dX8_carts_184 : decode cX8_carts 184 = .ok (.iadd, 1) := dk_96 (dk_at dksX8_carts_7 17 rfl rfl)
theorem dX8_carts_185 : decode cX8_carts 185 = .ok (.iastore, 1) := dk_79 (dk_at dksX8_carts_7 18 rfl rfl)
theorem dX8_carts_186 : decode cX8_carts 186 = .ok (.iinc 5 (-1), 3) := dk_132 5 255 (dk_at dksX8_carts_7 19 rfl rfl)
theorem dX8_carts_189 : decode cX8_carts 189 = .ok (.goto (-79), 3) := dk_167 255 177 (dk_at dksX8_carts_8 0 rfl rfl)
theorem dX8_carts_192 : decode cX8_carts 192 = .ok (.aload_n 0, 1) := dk_42 (dk_at dksX8_carts_8 3 rfl rfl)
theorem dX8_carts_193 : decode cX8_carts 193 = .ok (.getfield 9, 3) := dk_180 0 9 (dk_at dksX8_carts_8 4 rfl rfl)
theorem dX8_carts_196 : decode cX8_carts 196 = .ok (.iload 4, 2) := dk_21 4 (dk_at dksX8_carts_8 7 rfl rfl)
theorem dX8_carts_198 : decode cX8_carts 198 = .ok (.iconst 3, 1) := dk_6 (dk_at dksX8_carts_8 9 rfl rfl)
theorem dX8_carts_199 : decode cX8_carts 199 = .ok (.iadd, 1) := dk_96 (dk_at dksX8_carts_8 10 rfl rfl)
theorem dX8_carts_200 : decode cX8_carts 200 = .ok (.dup2, 1) := dk_92 (dk_at dksX8_carts_8 11 rfl rfl)
theorem dX8_carts_201 : decode cX8_carts 201 = .ok (.iaload, 1) := dk_46 (dk_at dksX8_carts_8 12 rfl rfl)
theorem dX8_carts_202 : decode cX8_carts 202 = .ok (.iload_n 2, 1) := dk_28 (dk_at dksX8_carts_8 13 rfl rfl)
theorem dX8_carts_203 : decode cX8_carts 203 = .ok (.iadd, 1) := dk_96 (dk_at dksX8_carts_8 14 rfl rfl)
theorem dX8_carts_204 : decode cX8_carts 204 = .ok (.iastore, 1) := dk_79 (dk_at dksX8_carts_8 15 rfl rfl)
theorem dX8_carts_205 : decode cX8_carts 205 = .ok (.aload_n 0, 1) := dk_42 (dk_at dksX8_carts_8 16 rfl rfl)
theorem dX8_carts_206 : decode cX8_carts 206 = .ok (.getfield 9, 3) := dk_180 0 9 (dk_at dksX8_carts_8 17 rfl rfl)
theorem dX8_carts_209 : decode cX8_carts 209 = .ok (.sipush 430, 3) := dk_17 1 174 (dk_at dksX8_carts_8 20 rfl rfl)
theorem dX8_carts_212 : decode cX8_carts 212 = .ok (.dup2, 1) := dk_92 (dk_at dksX8_carts_8 23 rfl rfl)
theorem dX8_carts_213 : decode cX8_carts 213 = .ok (.iaload, 1) := dk_46 (dk_at dksX8_carts_9 0 rfl rfl)
theorem dX8_carts_214 : decode cX8_carts 214 = .ok (.iload_n 2, 1) := dk_28 (dk_at dksX8_carts_9 1 rfl rfl)
theorem dX8_carts_215 : decode cX8_carts 215 = .ok (.aload_n 0, 1) := dk_42 (dk_at dksX8_carts_9 2 rfl rfl)
theorem dX8_carts_216 : decode cX8_carts 216 = .ok (.iload_n 1, 1) := dk_27 (dk_at dksX8_carts_9 3 rfl rfl)
theorem dX8_carts_217 : decode cX8_carts 217 = .ok (.iconst 0, 1) := dk_3 (dk_at dksX8_carts_9 4 rfl rfl)
theorem dX8_carts_218 : decode cX8_carts 218 = .ok (.invokevirtual 89, 3) := dk_182 0 89 (dk_at dksX8_carts_9 5 rfl rfl)
theorem dX8_carts_221 : decode cX8_carts 221 = .ok (.invokestatic 134, 3) := dk_184 0 134 (dk_at dksX8_carts_9 8 rfl rfl)
theorem dX8_carts_224 : decode cX8_carts 224 = .ok (.imul, 1) := dk_104 (dk_at dksX8_carts_9 11 rfl rfl)
theorem dX8_carts_225 : decode cX8_carts 225 = .ok (.iadd, 1) := dk_96 (dk_at dksX8_carts_9 12 rfl rfl)
theorem dX8_carts_226 : decode cX8_carts 226 = .ok (.iastore, 1) := dk_79 (dk_at dksX8_carts_9 13 rfl rfl)
theorem dX8_carts_227 : decode cX8_carts 227 = .ok (.aload_n 0, 1) := dk_42 (dk_at dksX8_carts_9 14 rfl rfl)
theorem dX8_carts_228 : decode cX8_carts 228 = .ok (.iload_n 3, 1) := dk_29 (dk_at dksX8_carts_9 15 rfl rfl)
theorem dX8_carts_229 : decode cX8_carts 229 = .ok (.invokevirtual 128, 3) := dk_182 0 128 (dk_at dksX8_carts_9 16 rfl rfl)
theorem dX8_carts_232 : decode cX8_carts 232 = .ok (.ireturn, 1) := dk_172 (dk_at dksX8_carts_9 19 rfl rfl)
def dkwX8_isBay_0 : List UInt8 := [26, 3, 6, 184, 0, 56, 172]
abbrev dktX8_isBay_0 : List UInt8 := dkwX8_isBay_0 ++ []
theorem dksX8_isBay_0 : cX8_isBay.data.toList.drop 0 = dktX8_isBay_0 := by decide +kernel
theorem dX8_isBay_0 : decode cX8_isBay 0 = .ok (.iload_n 0, 1) := dk_26 (dk_at dksX8_isBay_0 0 rfl rfl)
theorem dX8_isBay_1 : decode cX8_isBay 1 = .ok (.iconst 0, 1) := dk_3 (dk_at dksX8_isBay_0 1 rfl rfl)
theorem dX8_isBay_2 : decode cX8_isBay 2 = .ok (.iconst 3, 1) := dk_6 (dk_at dksX8_isBay_0 2 rfl rfl)
theorem dX8_isBay_3 : decode cX8_isBay 3 = .ok (.invokestatic 56, 3) := dk_184 0 56 (dk_at dksX8_isBay_0 3 rfl rfl)
theorem dX8_isBay_6 : decode cX8_isBay 6 = .ok (.ireturn, 1) := dk_172 (dk_at dksX8_isBay_0 6 rfl rfl)
def dkwX8_dueOf_1 : List UInt8 := [182, 0, 89, 96, 61, 132, 3, 1, 167, 255, 228, 28, 172]
abbrev dktX8_dueOf_1 : List UInt8 := dkwX8_dueOf_1 ++ []
def dkwX8_dueOf_0 : List UInt8 := [3, 61, 3, 62, 29, 42, 27, 7, 182, 0, 89, 162, 0, 24, 28, 42, 27, 8, 5, 29, 104, 96, 4, 96]
abbrev dktX8_dueOf_0 : List UInt8 := dkwX8_dueOf_0 ++ dktX8_dueOf_1
theorem dksX8_dueOf_0 : cX8_dueOf.data.toList.drop 0 = dktX8_dueOf_0 := by decide +kernel
theorem dksX8_dueOf_1 : cX8_dueOf.data.toList.drop 24 = dktX8_dueOf_1 := dk_seg dksX8_dueOf_0 24 rfl rfl
theorem dX8_dueOf_0 : decode cX8_dueOf 0 = .ok (.iconst 0, 1) := dk_3 (dk_at dksX8_dueOf_0 0 rfl rfl)
theorem dX8_dueOf_1 : decode cX8_dueOf 1 = .ok (.istore_n 2, 1) := dk_61 (dk_at dksX8_dueOf_0 1 rfl rfl)
theorem dX8_dueOf_2 : decode cX8_dueOf 2 = .ok (.iconst 0, 1) := dk_3 (dk_at dksX8_dueOf_0 2 rfl rfl)
theorem dX8_dueOf_3 : decode cX8_dueOf 3 = .ok (.istore_n 3, 1) := dk_62 (dk_at dksX8_dueOf_0 3 rfl rfl)
theorem dX8_dueOf_4 : decode cX8_dueOf 4 = .ok (.iload_n 3, 1) := dk_29 (dk_at dksX8_dueOf_0 4 rfl rfl)
theorem dX8_dueOf_5 : decode cX8_dueOf 5 = .ok (.aload_n 0, 1) := dk_42 (dk_at dksX8_dueOf_0 5 rfl rfl)
theorem dX8_dueOf_6 : decode cX8_dueOf 6 = .ok (.iload_n 1, 1) := dk_27 (dk_at dksX8_dueOf_0 6 rfl rfl)
theorem dX8_dueOf_7 : decode cX8_dueOf 7 = .ok (.iconst 4, 1) := dk_7 (dk_at dksX8_dueOf_0 7 rfl rfl)
theorem dX8_dueOf_8 : decode cX8_dueOf 8 = .ok (.invokevirtual 89, 3) := dk_182 0 89 (dk_at dksX8_dueOf_0 8 rfl rfl)
theorem dX8_dueOf_11 : decode cX8_dueOf 11 = .ok (.if_icmp .ge 24, 3) := dk_162 0 24 (dk_at dksX8_dueOf_0 11 rfl rfl)
theorem dX8_dueOf_14 : decode cX8_dueOf 14 = .ok (.iload_n 2, 1) := dk_28 (dk_at dksX8_dueOf_0 14 rfl rfl)
theorem dX8_dueOf_15 : decode cX8_dueOf 15 = .ok (.aload_n 0, 1) := dk_42 (dk_at dksX8_dueOf_0 15 rfl rfl)
theorem dX8_dueOf_16 : decode cX8_dueOf 16 = .ok (.iload_n 1, 1) := dk_27 (dk_at dksX8_dueOf_0 16 rfl rfl)
theorem dX8_dueOf_17 : decode cX8_dueOf 17 = .ok (.iconst 5, 1) := dk_8 (dk_at dksX8_dueOf_0 17 rfl rfl)
theorem dX8_dueOf_18 : decode cX8_dueOf 18 = .ok (.iconst 2, 1) := dk_5 (dk_at dksX8_dueOf_0 18 rfl rfl)
theorem dX8_dueOf_19 : decode cX8_dueOf 19 = .ok (.iload_n 3, 1) := dk_29 (dk_at dksX8_dueOf_0 19 rfl rfl)
theorem dX8_dueOf_20 : decode cX8_dueOf 20 = .ok (.imul, 1) := dk_104 (dk_at dksX8_dueOf_0 20 rfl rfl)
theorem dX8_dueOf_21 : decode cX8_dueOf 21 = .ok (.iadd, 1) := dk_96 (dk_at dksX8_dueOf_0 21 rfl rfl)
theorem dX8_dueOf_22 : decode cX8_dueOf 22 = .ok (.iconst 1, 1) := dk_4 (dk_at dksX8_dueOf_0 22 rfl rfl)
theorem dX8_dueOf_23 : decode cX8_dueOf 23 = .ok (.iadd, 1) := dk_96 (dk_at dksX8_dueOf_0 23 rfl rfl)
theorem dX8_dueOf_24 : decode cX8_dueOf 24 = .ok (.invokevirtual 89, 3) := dk_182 0 89 (dk_at dksX8_dueOf_1 0 rfl rfl)
theorem dX8_dueOf_27 : decode cX8_dueOf 27 = .ok (.iadd, 1) := dk_96 (dk_at dksX8_dueOf_1 3 rfl rfl)
theorem dX8_dueOf_28 : decode cX8_dueOf 28 = .ok (.istore_n 2, 1) := dk_61 (dk_at dksX8_dueOf_1 4 rfl rfl)
theorem dX8_dueOf_29 : decode cX8_dueOf 29 = .ok (.iinc 3 1, 3) := dk_132 3 1 (dk_at dksX8_dueOf_1 5 rfl rfl)
theorem dX8_dueOf_32 : decode cX8_dueOf 32 = .ok (.goto (-28), 3) := dk_167 255 228 (dk_at dksX8_dueOf_1 8 rfl rfl)
theorem dX8_dueOf_35 : decode cX8_dueOf 35 = .ok (.iload_n 2, 1) := dk_28 (dk_at dksX8_dueOf_1 11 rfl rfl)
theorem dX8_dueOf_36 : decode cX8_dueOf 36 = .ok (.ireturn, 1) := dk_172 (dk_at dksX8_dueOf_1 12 rfl rfl)
def dkwX8_inBay_0 : List UInt8 := [42, 180, 0, 9, 17, 0, 139, 16, 61, 27, 104, 96, 46, 172]
abbrev dktX8_inBay_0 : List UInt8 := dkwX8_inBay_0 ++ []
theorem dksX8_inBay_0 : cX8_inBay.data.toList.drop 0 = dktX8_inBay_0 := by decide +kernel
theorem dX8_inBay_0 : decode cX8_inBay 0 = .ok (.aload_n 0, 1) := dk_42 (dk_at dksX8_inBay_0 0 rfl rfl)
theorem dX8_inBay_1 : decode cX8_inBay 1 = .ok (.getfield 9, 3) := dk_180 0 9 (dk_at dksX8_inBay_0 1 rfl rfl)
theorem dX8_inBay_4 : decode cX8_inBay 4 = .ok (.sipush 139, 3) := dk_17 0 139 (dk_at dksX8_inBay_0 4 rfl rfl)
theorem dX8_inBay_7 : decode cX8_inBay 7 = .ok (.bipush 61, 2) := dk_16 61 (dk_at dksX8_inBay_0 7 rfl rfl)
theorem dX8_inBay_9 : decode cX8_inBay 9 = .ok (.iload_n 1, 1) := dk_27 (dk_at dksX8_inBay_0 9 rfl rfl)
theorem dX8_inBay_10 : decode cX8_inBay 10 = .ok (.imul, 1) := dk_104 (dk_at dksX8_inBay_0 10 rfl rfl)
theorem dX8_inBay_11 : decode cX8_inBay 11 = .ok (.iadd, 1) := dk_96 (dk_at dksX8_inBay_0 11 rfl rfl)
theorem dX8_inBay_12 : decode cX8_inBay 12 = .ok (.iaload, 1) := dk_46 (dk_at dksX8_inBay_0 12 rfl rfl)
theorem dX8_inBay_13 : decode cX8_inBay 13 = .ok (.ireturn, 1) := dk_172 (dk_at dksX8_inBay_0 13 rfl rfl)
def dkwX8_dropsDue_2 : List UInt8 := [167, 255, 219, 42, 180, 0, 9, 28, 7, 96, 92, 46, 4, 100, 79, 177]
abbrev dktX8_dropsDue_2 : List UInt8 := dkwX8_dropsDue_2 ++ []
def dkwX8_dropsDue_1 : List UInt8 := [162, 0, 27, 42, 180, 0, 9, 28, 29, 96, 42, 180, 0, 9, 28, 29, 96, 5, 96, 46, 79, 132, 3, 1]
abbrev dktX8_dropsDue_1 : List UInt8 := dkwX8_dropsDue_1 ++ dktX8_dropsDue_2
def dkwX8_dropsDue_0 : List UInt8 := [4, 16, 23, 27, 104, 96, 61, 8, 62, 29, 6, 5, 42, 180, 0, 9, 28, 7, 96, 46, 104, 96]
abbrev dktX8_dropsDue_0 : List UInt8 := dkwX8_dropsDue_0 ++ dktX8_dropsDue_1
theorem dksX8_dropsDue_0 : cX8_dropsDue.data.toList.drop 0 = dktX8_dropsDue_0 := by decide +kernel
theorem dksX8_dropsDue_1 : cX8_dropsDue.data.toList.drop 22 = dktX8_dropsDue_1 := dk_seg dksX8_dropsDue_0 22 rfl rfl
theorem dksX8_dropsDue_2 : cX8_dropsDue.data.toList.drop 46 = dktX8_dropsDue_2 := dk_seg dksX8_dropsDue_1 24 rfl rfl
theorem dX8_dropsDue_0 : decode cX8_dropsDue 0 = .ok (.iconst 1, 1) := dk_4 (dk_at dksX8_dropsDue_0 0 rfl rfl)
theorem dX8_dropsDue_1 : decode cX8_dropsDue 1 = .ok (.bipush 23, 2) := dk_16 23 (dk_at dksX8_dropsDue_0 1 rfl rfl)
theorem dX8_dropsDue_3 : decode cX8_dropsDue 3 = .ok (.iload_n 1, 1) := dk_27 (dk_at dksX8_dropsDue_0 3 rfl rfl)
theorem dX8_dropsDue_4 : decode cX8_dropsDue 4 = .ok (.imul, 1) := dk_104 (dk_at dksX8_dropsDue_0 4 rfl rfl)
theorem dX8_dropsDue_5 : decode cX8_dropsDue 5 = .ok (.iadd, 1) := dk_96 (dk_at dksX8_dropsDue_0 5 rfl rfl)
theorem dX8_dropsDue_6 : decode cX8_dropsDue 6 = .ok (.istore_n 2, 1) := dk_61 (dk_at dksX8_dropsDue_0 6 rfl rfl)
theorem dX8_dropsDue_7 : decode cX8_dropsDue 7 = .ok (.iconst 5, 1) := dk_8 (dk_at dksX8_dropsDue_0 7 rfl rfl)
theorem dX8_dropsDue_8 : decode cX8_dropsDue 8 = .ok (.istore_n 3, 1) := dk_62 (dk_at dksX8_dropsDue_0 8 rfl rfl)
theorem dX8_dropsDue_9 : decode cX8_dropsDue 9 = .ok (.iload_n 3, 1) := dk_29 (dk_at dksX8_dropsDue_0 9 rfl rfl)
theorem dX8_dropsDue_10 : decode cX8_dropsDue 10 = .ok (.iconst 3, 1) := dk_6 (dk_at dksX8_dropsDue_0 10 rfl rfl)
theorem dX8_dropsDue_11 : decode cX8_dropsDue 11 = .ok (.iconst 2, 1) := dk_5 (dk_at dksX8_dropsDue_0 11 rfl rfl)
theorem dX8_dropsDue_12 : decode cX8_dropsDue 12 = .ok (.aload_n 0, 1) := dk_42 (dk_at dksX8_dropsDue_0 12 rfl rfl)
theorem dX8_dropsDue_13 : decode cX8_dropsDue 13 = .ok (.getfield 9, 3) := dk_180 0 9 (dk_at dksX8_dropsDue_0 13 rfl rfl)
theorem dX8_dropsDue_16 : decode cX8_dropsDue 16 = .ok (.iload_n 2, 1) := dk_28 (dk_at dksX8_dropsDue_0 16 rfl rfl)
theorem dX8_dropsDue_17 : decode cX8_dropsDue 17 = .ok (.iconst 4, 1) := dk_7 (dk_at dksX8_dropsDue_0 17 rfl rfl)
theorem dX8_dropsDue_18 : decode cX8_dropsDue 18 = .ok (.iadd, 1) := dk_96 (dk_at dksX8_dropsDue_0 18 rfl rfl)
theorem dX8_dropsDue_19 : decode cX8_dropsDue 19 = .ok (.iaload, 1) := dk_46 (dk_at dksX8_dropsDue_0 19 rfl rfl)
theorem dX8_dropsDue_20 : decode cX8_dropsDue 20 = .ok (.imul, 1) := dk_104 (dk_at dksX8_dropsDue_0 20 rfl rfl)
theorem dX8_dropsDue_21 : decode cX8_dropsDue 21 = .ok (.iadd, 1) := dk_96 (dk_at dksX8_dropsDue_0 21 rfl rfl)
theorem dX8_dropsDue_22 : decode cX8_dropsDue 22 = .ok (.if_icmp .ge 27, 3) := dk_162 0 27 (dk_at dksX8_dropsDue_1 0 rfl rfl)
theorem dX8_dropsDue_25 : decode cX8_dropsDue 25 = .ok (.aload_n 0, 1) := dk_42 (dk_at dksX8_dropsDue_1 3 rfl rfl)
theorem dX8_dropsDue_26 : decode cX8_dropsDue 26 = .ok (.getfield 9, 3) := dk_180 0 9 (dk_at dksX8_dropsDue_1 4 rfl rfl)
theorem dX8_dropsDue_29 : decode cX8_dropsDue 29 = .ok (.iload_n 2, 1) := dk_28 (dk_at dksX8_dropsDue_1 7 rfl rfl)
theorem dX8_dropsDue_30 : decode cX8_dropsDue 30 = .ok (.iload_n 3, 1) := dk_29 (dk_at dksX8_dropsDue_1 8 rfl rfl)
theorem dX8_dropsDue_31 : decode cX8_dropsDue 31 = .ok (.iadd, 1) := dk_96 (dk_at dksX8_dropsDue_1 9 rfl rfl)
theorem dX8_dropsDue_32 : decode cX8_dropsDue 32 = .ok (.aload_n 0, 1) := dk_42 (dk_at dksX8_dropsDue_1 10 rfl rfl)
theorem dX8_dropsDue_33 : decode cX8_dropsDue 33 = .ok (.getfield 9, 3) := dk_180 0 9 (dk_at dksX8_dropsDue_1 11 rfl rfl)
theorem dX8_dropsDue_36 : decode cX8_dropsDue 36 = .ok (.iload_n 2, 1) := dk_28 (dk_at dksX8_dropsDue_1 14 rfl rfl)
theorem dX8_dropsDue_37 : decode cX8_dropsDue 37 = .ok (.iload_n 3, 1) := dk_29 (dk_at dksX8_dropsDue_1 15 rfl rfl)
theorem dX8_dropsDue_38 : decode cX8_dropsDue 38 = .ok (.iadd, 1) := dk_96 (dk_at dksX8_dropsDue_1 16 rfl rfl)
theorem dX8_dropsDue_39 : decode cX8_dropsDue 39 = .ok (.iconst 2, 1) := dk_5 (dk_at dksX8_dropsDue_1 17 rfl rfl)
theorem dX8_dropsDue_40 : decode cX8_dropsDue 40 = .ok (.iadd, 1) := dk_96 (dk_at dksX8_dropsDue_1 18 rfl rfl)
theorem dX8_dropsDue_41 : decode cX8_dropsDue 41 = .ok (.iaload, 1) := dk_46 (dk_at dksX8_dropsDue_1 19 rfl rfl)
theorem dX8_dropsDue_42 : decode cX8_dropsDue 42 = .ok (.iastore, 1) := dk_79 (dk_at dksX8_dropsDue_1 20 rfl rfl)
theorem dX8_dropsDue_43 : decode cX8_dropsDue 43 = .ok (.iinc 3 1, 3) := dk_132 3 1 (dk_at dksX8_dropsDue_1 21 rfl rfl)
theorem dX8_dropsDue_46 : decode cX8_dropsDue 46 = .ok (.goto (-37), 3) := dk_167 255 219 (dk_at dksX8_dropsDue_2 0 rfl rfl)
theorem dX8_dropsDue_49 : decode cX8_dropsDue 49 = .ok (.aload_n 0, 1) := dk_42 (dk_at dksX8_dropsDue_2 3 rfl rfl)
theorem dX8_dropsDue_50 : decode cX8_dropsDue 50 = .ok (.getfield 9, 3) := dk_180 0 9 (dk_at dksX8_dropsDue_2 4 rfl rfl)
theorem dX8_dropsDue_53 : decode cX8_dropsDue 53 = .ok (.iload_n 2, 1) := dk_28 (dk_at dksX8_dropsDue_2 7 rfl rfl)
theorem dX8_dropsDue_54 : decode cX8_dropsDue 54 = .ok (.iconst 4, 1) := dk_7 (dk_at dksX8_dropsDue_2 8 rfl rfl)
theorem dX8_dropsDue_55 : decode cX8_dropsDue 55 = .ok (.iadd, 1) := dk_96 (dk_at dksX8_dropsDue_2 9 rfl rfl)
theorem dX8_dropsDue_56 : decode cX8_dropsDue 56 = .ok (.dup2, 1) := dk_92 (dk_at dksX8_dropsDue_2 10 rfl rfl)
theorem dX8_dropsDue_57 : decode cX8_dropsDue 57 = .ok (.iaload, 1) := dk_46 (dk_at dksX8_dropsDue_2 11 rfl rfl)
theorem dX8_dropsDue_58 : decode cX8_dropsDue 58 = .ok (.iconst 1, 1) := dk_4 (dk_at dksX8_dropsDue_2 12 rfl rfl)
theorem dX8_dropsDue_59 : decode cX8_dropsDue 59 = .ok (.isub, 1) := dk_100 (dk_at dksX8_dropsDue_2 13 rfl rfl)
theorem dX8_dropsDue_60 : decode cX8_dropsDue 60 = .ok (.iastore, 1) := dk_79 (dk_at dksX8_dropsDue_2 14 rfl rfl)
theorem dX8_dropsDue_61 : decode cX8_dropsDue 61 = .ok (.return_, 1) := dk_177 (dk_at dksX8_dropsDue_2 15 rfl rfl)
def dkwX8_pints_0 : List UInt8 := [26, 154, 0, 8, 16, 6, 167, 0, 14, 26, 4, 160, 0, 7, 8, 167, 0, 5, 16, 7, 172]
abbrev dktX8_pints_0 : List UInt8 := dkwX8_pints_0 ++ []
theorem dksX8_pints_0 : cX8_pints.data.toList.drop 0 = dktX8_pints_0 := by decide +kernel
theorem dX8_pints_0 : decode cX8_pints 0 = .ok (.iload_n 0, 1) := dk_26 (dk_at dksX8_pints_0 0 rfl rfl)
theorem dX8_pints_1 : decode cX8_pints 1 = .ok (.ifCond .ne 8, 3) := dk_154 0 8 (dk_at dksX8_pints_0 1 rfl rfl)
theorem dX8_pints_4 : decode cX8_pints 4 = .ok (.bipush 6, 2) := dk_16 6 (dk_at dksX8_pints_0 4 rfl rfl)
theorem dX8_pints_6 : decode cX8_pints 6 = .ok (.goto 14, 3) := dk_167 0 14 (dk_at dksX8_pints_0 6 rfl rfl)
theorem dX8_pints_9 : decode cX8_pints 9 = .ok (.iload_n 0, 1) := dk_26 (dk_at dksX8_pints_0 9 rfl rfl)
theorem dX8_pints_10 : decode cX8_pints 10 = .ok (.iconst 1, 1) := dk_4 (dk_at dksX8_pints_0 10 rfl rfl)
theorem dX8_pints_11 : decode cX8_pints 11 = .ok (.if_icmp .ne 7, 3) := dk_160 0 7 (dk_at dksX8_pints_0 11 rfl rfl)
theorem dX8_pints_14 : decode cX8_pints 14 = .ok (.iconst 5, 1) := dk_8 (dk_at dksX8_pints_0 14 rfl rfl)
theorem dX8_pints_15 : decode cX8_pints 15 = .ok (.goto 5, 3) := dk_167 0 5 (dk_at dksX8_pints_0 15 rfl rfl)
theorem dX8_pints_18 : decode cX8_pints 18 = .ok (.bipush 7, 2) := dk_16 7 (dk_at dksX8_pints_0 18 rfl rfl)
theorem dX8_pints_20 : decode cX8_pints 20 = .ok (.ireturn, 1) := dk_172 (dk_at dksX8_pints_0 20 rfl rfl)
def dkwX8_bayOf_3 : List UInt8 := [16, 254, 172]
abbrev dktX8_bayOf_3 : List UInt8 := dkwX8_bayOf_3 ++ []
def dkwX8_bayOf_2 : List UInt8 := [42, 27, 182, 0, 128, 172, 42, 27, 182, 0, 144, 172, 42, 27, 182, 0, 147, 172, 42, 27, 182, 0, 150, 172]
abbrev dktX8_bayOf_2 : List UInt8 := dkwX8_bayOf_2 ++ dktX8_bayOf_3
def dkwX8_bayOf_1 : List UInt8 := [170, 0, 0, 0, 0, 54, 0, 0, 0, 0, 0, 0, 0, 3, 0, 0, 0, 30, 0, 0, 0, 36, 0, 0, 0, 42, 0, 0, 0, 48]
abbrev dktX8_bayOf_1 : List UInt8 := dkwX8_bayOf_1 ++ dktX8_bayOf_2
def dkwX8_bayOf_0 : List UInt8 := [27, 184, 0, 122, 154, 0, 5, 2, 172, 28]
abbrev dktX8_bayOf_0 : List UInt8 := dkwX8_bayOf_0 ++ dktX8_bayOf_1
theorem dksX8_bayOf_0 : cX8_bayOf.data.toList.drop 0 = dktX8_bayOf_0 := by decide +kernel
theorem dksX8_bayOf_1 : cX8_bayOf.data.toList.drop 10 = dktX8_bayOf_1 := dk_seg dksX8_bayOf_0 10 rfl rfl
theorem dksX8_bayOf_2 : cX8_bayOf.data.toList.drop 40 = dktX8_bayOf_2 := dk_seg dksX8_bayOf_1 30 rfl rfl
theorem dksX8_bayOf_3 : cX8_bayOf.data.toList.drop 64 = dktX8_bayOf_3 := dk_seg dksX8_bayOf_2 24 rfl rfl
theorem dX8_bayOf_0 : decode cX8_bayOf 0 = .ok (.iload_n 1, 1) := dk_27 (dk_at dksX8_bayOf_0 0 rfl rfl)
theorem dX8_bayOf_1 : decode cX8_bayOf 1 = .ok (.invokestatic 122, 3) := dk_184 0 122 (dk_at dksX8_bayOf_0 1 rfl rfl)
theorem dX8_bayOf_4 : decode cX8_bayOf 4 = .ok (.ifCond .ne 5, 3) := dk_154 0 5 (dk_at dksX8_bayOf_0 4 rfl rfl)
theorem dX8_bayOf_7 : decode cX8_bayOf 7 = .ok (.iconst (-1), 1) := dk_2 (dk_at dksX8_bayOf_0 7 rfl rfl)
theorem dX8_bayOf_8 : decode cX8_bayOf 8 = .ok (.ireturn, 1) := dk_172 (dk_at dksX8_bayOf_0 8 rfl rfl)
theorem dX8_bayOf_9 : decode cX8_bayOf 9 = .ok (.iload_n 2, 1) := dk_28 (dk_at dksX8_bayOf_0 9 rfl rfl)
theorem dX8_bayOf_10 : decode cX8_bayOf 10 = .ok (.tableswitch 54 0 3 #[30, 36, 42, 48], 30) := by decide +kernel
theorem dX8_bayOf_40 : decode cX8_bayOf 40 = .ok (.aload_n 0, 1) := dk_42 (dk_at dksX8_bayOf_2 0 rfl rfl)
theorem dX8_bayOf_41 : decode cX8_bayOf 41 = .ok (.iload_n 1, 1) := dk_27 (dk_at dksX8_bayOf_2 1 rfl rfl)
theorem dX8_bayOf_42 : decode cX8_bayOf 42 = .ok (.invokevirtual 128, 3) := dk_182 0 128 (dk_at dksX8_bayOf_2 2 rfl rfl)
theorem dX8_bayOf_45 : decode cX8_bayOf 45 = .ok (.ireturn, 1) := dk_172 (dk_at dksX8_bayOf_2 5 rfl rfl)
theorem dX8_bayOf_46 : decode cX8_bayOf 46 = .ok (.aload_n 0, 1) := dk_42 (dk_at dksX8_bayOf_2 6 rfl rfl)
theorem dX8_bayOf_47 : decode cX8_bayOf 47 = .ok (.iload_n 1, 1) := dk_27 (dk_at dksX8_bayOf_2 7 rfl rfl)
theorem dX8_bayOf_48 : decode cX8_bayOf 48 = .ok (.invokevirtual 144, 3) := dk_182 0 144 (dk_at dksX8_bayOf_2 8 rfl rfl)
theorem dX8_bayOf_51 : decode cX8_bayOf 51 = .ok (.ireturn, 1) := dk_172 (dk_at dksX8_bayOf_2 11 rfl rfl)
theorem dX8_bayOf_52 : decode cX8_bayOf 52 = .ok (.aload_n 0, 1) := dk_42 (dk_at dksX8_bayOf_2 12 rfl rfl)
theorem dX8_bayOf_53 : decode cX8_bayOf 53 = .ok (.iload_n 1, 1) := dk_27 (dk_at dksX8_bayOf_2 13 rfl rfl)
theorem dX8_bayOf_54 : decode cX8_bayOf 54 = .ok (.invokevirtual 147, 3) := dk_182 0 147 (dk_at dksX8_bayOf_2 14 rfl rfl)
theorem dX8_bayOf_57 : decode cX8_bayOf 57 = .ok (.ireturn, 1) := dk_172 (dk_at dksX8_bayOf_2 17 rfl rfl)
theorem dX8_bayOf_58 : decode cX8_bayOf 58 = .ok (.aload_n 0, 1) := dk_42 (dk_at dksX8_bayOf_2 18 rfl rfl)
theorem dX8_bayOf_59 : decode cX8_bayOf 59 = .ok (.iload_n 1, 1) := dk_27 (dk_at dksX8_bayOf_2 19 rfl rfl)
theorem dX8_bayOf_60 : decode cX8_bayOf 60 = .ok (.invokevirtual 150, 3) := dk_182 0 150 (dk_at dksX8_bayOf_2 20 rfl rfl)
theorem dX8_bayOf_63 : decode cX8_bayOf 63 = .ok (.ireturn, 1) := dk_172 (dk_at dksX8_bayOf_2 23 rfl rfl)
theorem dX8_bayOf_64 : decode cX8_bayOf 64 = .ok (.bipush (-2), 2) := dk_16 254 (dk_at dksX8_bayOf_3 0 rfl rfl)
theorem dX8_bayOf_66 : decode cX8_bayOf 66 = .ok (.ireturn, 1) := dk_172 (dk_at dksX8_bayOf_3 2 rfl rfl)
def dkwX8_lotsOf_2 : List UInt8 := [28, 172]
abbrev dktX8_lotsOf_2 : List UInt8 := dkwX8_lotsOf_2 ++ []
def dkwX8_lotsOf_1 : List UInt8 := [42, 27, 29, 4, 100, 182, 0, 119, 159, 0, 7, 4, 167, 0, 4, 3, 96, 61, 132, 3, 1, 167, 255, 215]
abbrev dktX8_lotsOf_1 : List UInt8 := dkwX8_lotsOf_1 ++ dktX8_lotsOf_2
def dkwX8_lotsOf_0 : List UInt8 := [3, 61, 3, 62, 29, 42, 27, 182, 0, 128, 162, 0, 38, 28, 29, 153, 0, 20, 42, 27, 29, 182, 0, 119]
abbrev dktX8_lotsOf_0 : List UInt8 := dkwX8_lotsOf_0 ++ dktX8_lotsOf_1
theorem dksX8_lotsOf_0 : cX8_lotsOf.data.toList.drop 0 = dktX8_lotsOf_0 := by decide +kernel
theorem dksX8_lotsOf_1 : cX8_lotsOf.data.toList.drop 24 = dktX8_lotsOf_1 := dk_seg dksX8_lotsOf_0 24 rfl rfl
theorem dksX8_lotsOf_2 : cX8_lotsOf.data.toList.drop 48 = dktX8_lotsOf_2 := dk_seg dksX8_lotsOf_1 24 rfl rfl
theorem dX8_lotsOf_0 : decode cX8_lotsOf 0 = .ok (.iconst 0, 1) := dk_3 (dk_at dksX8_lotsOf_0 0 rfl rfl)
theorem dX8_lotsOf_1 : decode cX8_lotsOf 1 = .ok (.istore_n 2, 1) := dk_61 (dk_at dksX8_lotsOf_0 1 rfl rfl)
theorem dX8_lotsOf_2 : decode cX8_lotsOf 2 = .ok (.iconst 0, 1) := dk_3 (dk_at dksX8_lotsOf_0 2 rfl rfl)
theorem dX8_lotsOf_3 : decode cX8_lotsOf 3 = .ok (.istore_n 3, 1) := dk_62 (dk_at dksX8_lotsOf_0 3 rfl rfl)
theorem dX8_lotsOf_4 : decode cX8_lotsOf 4 = .ok (.iload_n 3, 1) := dk_29 (dk_at dksX8_lotsOf_0 4 rfl rfl)
theorem dX8_lotsOf_5 : decode cX8_lotsOf 5 = .ok (.aload_n 0, 1) := dk_42 (dk_at dksX8_lotsOf_0 5 rfl rfl)
theorem dX8_lotsOf_6 : decode cX8_lotsOf 6 = .ok (.iload_n 1, 1) := dk_27 (dk_at dksX8_lotsOf_0 6 rfl rfl)
theorem dX8_lotsOf_7 : decode cX8_lotsOf 7 = .ok (.invokevirtual 128, 3) := dk_182 0 128 (dk_at dksX8_lotsOf_0 7 rfl rfl)
theorem dX8_lotsOf_10 : decode cX8_lotsOf 10 = .ok (.if_icmp .ge 38, 3) := dk_162 0 38 (dk_at dksX8_lotsOf_0 10 rfl rfl)
theorem dX8_lotsOf_13 : decode cX8_lotsOf 13 = .ok (.iload_n 2, 1) := dk_28 (dk_at dksX8_lotsOf_0 13 rfl rfl)
theorem dX8_lotsOf_14 : decode cX8_lotsOf 14 = .ok (.iload_n 3, 1) := dk_29 (dk_at dksX8_lotsOf_0 14 rfl rfl)
theorem dX8_lotsOf_15 : decode cX8_lotsOf 15 = .ok (.ifCond .eq 20, 3) := dk_153 0 20 (dk_at dksX8_lotsOf_0 15 rfl rfl)
theorem dX8_lotsOf_18 : decode cX8_lotsOf 18 = .ok (.aload_n 0, 1) := dk_42 (dk_at dksX8_lotsOf_0 18 rfl rfl)
theorem dX8_lotsOf_19 : decode cX8_lotsOf 19 = .ok (.iload_n 1, 1) := dk_27 (dk_at dksX8_lotsOf_0 19 rfl rfl)
theorem dX8_lotsOf_20 : decode cX8_lotsOf 20 = .ok (.iload_n 3, 1) := dk_29 (dk_at dksX8_lotsOf_0 20 rfl rfl)
theorem dX8_lotsOf_21 : decode cX8_lotsOf 21 = .ok (.invokevirtual 119, 3) := dk_182 0 119 (dk_at dksX8_lotsOf_0 21 rfl rfl)
theorem dX8_lotsOf_24 : decode cX8_lotsOf 24 = .ok (.aload_n 0, 1) := dk_42 (dk_at dksX8_lotsOf_1 0 rfl rfl)
theorem dX8_lotsOf_25 : decode cX8_lotsOf 25 = .ok (.iload_n 1, 1) := dk_27 (dk_at dksX8_lotsOf_1 1 rfl rfl)
theorem dX8_lotsOf_26 : decode cX8_lotsOf 26 = .ok (.iload_n 3, 1) := dk_29 (dk_at dksX8_lotsOf_1 2 rfl rfl)
theorem dX8_lotsOf_27 : decode cX8_lotsOf 27 = .ok (.iconst 1, 1) := dk_4 (dk_at dksX8_lotsOf_1 3 rfl rfl)
theorem dX8_lotsOf_28 : decode cX8_lotsOf 28 = .ok (.isub, 1) := dk_100 (dk_at dksX8_lotsOf_1 4 rfl rfl)
theorem dX8_lotsOf_29 : decode cX8_lotsOf 29 = .ok (.invokevirtual 119, 3) := dk_182 0 119 (dk_at dksX8_lotsOf_1 5 rfl rfl)
theorem dX8_lotsOf_32 : decode cX8_lotsOf 32 = .ok (.if_icmp .eq 7, 3) := dk_159 0 7 (dk_at dksX8_lotsOf_1 8 rfl rfl)
theorem dX8_lotsOf_35 : decode cX8_lotsOf 35 = .ok (.iconst 1, 1) := dk_4 (dk_at dksX8_lotsOf_1 11 rfl rfl)
theorem dX8_lotsOf_36 : decode cX8_lotsOf 36 = .ok (.goto 4, 3) := dk_167 0 4 (dk_at dksX8_lotsOf_1 12 rfl rfl)
theorem dX8_lotsOf_39 : decode cX8_lotsOf 39 = .ok (.iconst 0, 1) := dk_3 (dk_at dksX8_lotsOf_1 15 rfl rfl)
theorem dX8_lotsOf_40 : decode cX8_lotsOf 40 = .ok (.iadd, 1) := dk_96 (dk_at dksX8_lotsOf_1 16 rfl rfl)
theorem dX8_lotsOf_41 : decode cX8_lotsOf 41 = .ok (.istore_n 2, 1) := dk_61 (dk_at dksX8_lotsOf_1 17 rfl rfl)
theorem dX8_lotsOf_42 : decode cX8_lotsOf 42 = .ok (.iinc 3 1, 3) := dk_132 3 1 (dk_at dksX8_lotsOf_1 18 rfl rfl)
theorem dX8_lotsOf_45 : decode cX8_lotsOf 45 = .ok (.goto (-41), 3) := dk_167 255 215 (dk_at dksX8_lotsOf_1 21 rfl rfl)
theorem dX8_lotsOf_48 : decode cX8_lotsOf 48 = .ok (.iload_n 2, 1) := dk_28 (dk_at dksX8_lotsOf_2 0 rfl rfl)
theorem dX8_lotsOf_49 : decode cX8_lotsOf 49 = .ok (.ireturn, 1) := dk_172 (dk_at dksX8_lotsOf_2 1 rfl rfl)
def dkwX8_sheaf_0 : List UInt8 := [42, 180, 0, 9, 17, 0, 139, 16, 61, 27, 104, 96, 4, 96, 28, 96, 46, 172]
abbrev dktX8_sheaf_0 : List UInt8 := dkwX8_sheaf_0 ++ []
theorem dksX8_sheaf_0 : cX8_sheaf.data.toList.drop 0 = dktX8_sheaf_0 := by decide +kernel
theorem dX8_sheaf_0 : decode cX8_sheaf 0 = .ok (.aload_n 0, 1) := dk_42 (dk_at dksX8_sheaf_0 0 rfl rfl)
theorem dX8_sheaf_1 : decode cX8_sheaf 1 = .ok (.getfield 9, 3) := dk_180 0 9 (dk_at dksX8_sheaf_0 1 rfl rfl)
theorem dX8_sheaf_4 : decode cX8_sheaf 4 = .ok (.sipush 139, 3) := dk_17 0 139 (dk_at dksX8_sheaf_0 4 rfl rfl)
theorem dX8_sheaf_7 : decode cX8_sheaf 7 = .ok (.bipush 61, 2) := dk_16 61 (dk_at dksX8_sheaf_0 7 rfl rfl)
theorem dX8_sheaf_9 : decode cX8_sheaf 9 = .ok (.iload_n 1, 1) := dk_27 (dk_at dksX8_sheaf_0 9 rfl rfl)
theorem dX8_sheaf_10 : decode cX8_sheaf 10 = .ok (.imul, 1) := dk_104 (dk_at dksX8_sheaf_0 10 rfl rfl)
theorem dX8_sheaf_11 : decode cX8_sheaf 11 = .ok (.iadd, 1) := dk_96 (dk_at dksX8_sheaf_0 11 rfl rfl)
theorem dX8_sheaf_12 : decode cX8_sheaf 12 = .ok (.iconst 1, 1) := dk_4 (dk_at dksX8_sheaf_0 12 rfl rfl)
theorem dX8_sheaf_13 : decode cX8_sheaf 13 = .ok (.iadd, 1) := dk_96 (dk_at dksX8_sheaf_0 13 rfl rfl)
theorem dX8_sheaf_14 : decode cX8_sheaf 14 = .ok (.iload_n 2, 1) := dk_28 (dk_at dksX8_sheaf_0 14 rfl rfl)
theorem dX8_sheaf_15 : decode cX8_sheaf 15 = .ok (.iadd, 1) := dk_96 (dk_at dksX8_sheaf_0 15 rfl rfl)
theorem dX8_sheaf_16 : decode cX8_sheaf 16 = .ok (.iaload, 1) := dk_46 (dk_at dksX8_sheaf_0 16 rfl rfl)
theorem dX8_sheaf_17 : decode cX8_sheaf 17 = .ok (.ireturn, 1) := dk_172 (dk_at dksX8_sheaf_0 17 rfl rfl)
def dkwX8_pintsIn_1 : List UInt8 := [61, 132, 3, 1, 167, 255, 232, 28, 172]
abbrev dktX8_pintsIn_1 : List UInt8 := dkwX8_pintsIn_1 ++ []
def dkwX8_pintsIn_0 : List UInt8 := [3, 61, 3, 62, 29, 42, 27, 182, 0, 128, 162, 0, 21, 28, 42, 27, 29, 182, 0, 141, 184, 0, 134, 96]
abbrev dktX8_pintsIn_0 : List UInt8 := dkwX8_pintsIn_0 ++ dktX8_pintsIn_1
theorem dksX8_pintsIn_0 : cX8_pintsIn.data.toList.drop 0 = dktX8_pintsIn_0 := by decide +kernel
theorem dksX8_pintsIn_1 : cX8_pintsIn.data.toList.drop 24 = dktX8_pintsIn_1 := dk_seg dksX8_pintsIn_0 24 rfl rfl
theorem dX8_pintsIn_0 : decode cX8_pintsIn 0 = .ok (.iconst 0, 1) := dk_3 (dk_at dksX8_pintsIn_0 0 rfl rfl)
theorem dX8_pintsIn_1 : decode cX8_pintsIn 1 = .ok (.istore_n 2, 1) := dk_61 (dk_at dksX8_pintsIn_0 1 rfl rfl)
theorem dX8_pintsIn_2 : decode cX8_pintsIn 2 = .ok (.iconst 0, 1) := dk_3 (dk_at dksX8_pintsIn_0 2 rfl rfl)
theorem dX8_pintsIn_3 : decode cX8_pintsIn 3 = .ok (.istore_n 3, 1) := dk_62 (dk_at dksX8_pintsIn_0 3 rfl rfl)
theorem dX8_pintsIn_4 : decode cX8_pintsIn 4 = .ok (.iload_n 3, 1) := dk_29 (dk_at dksX8_pintsIn_0 4 rfl rfl)
theorem dX8_pintsIn_5 : decode cX8_pintsIn 5 = .ok (.aload_n 0, 1) := dk_42 (dk_at dksX8_pintsIn_0 5 rfl rfl)
theorem dX8_pintsIn_6 : decode cX8_pintsIn 6 = .ok (.iload_n 1, 1) := dk_27 (dk_at dksX8_pintsIn_0 6 rfl rfl)
theorem dX8_pintsIn_7 : decode cX8_pintsIn 7 = .ok (.invokevirtual 128, 3) := dk_182 0 128 (dk_at dksX8_pintsIn_0 7 rfl rfl)
theorem dX8_pintsIn_10 : decode cX8_pintsIn 10 = .ok (.if_icmp .ge 21, 3) := dk_162 0 21 (dk_at dksX8_pintsIn_0 10 rfl rfl)
theorem dX8_pintsIn_13 : decode cX8_pintsIn 13 = .ok (.iload_n 2, 1) := dk_28 (dk_at dksX8_pintsIn_0 13 rfl rfl)
theorem dX8_pintsIn_14 : decode cX8_pintsIn 14 = .ok (.aload_n 0, 1) := dk_42 (dk_at dksX8_pintsIn_0 14 rfl rfl)
theorem dX8_pintsIn_15 : decode cX8_pintsIn 15 = .ok (.iload_n 1, 1) := dk_27 (dk_at dksX8_pintsIn_0 15 rfl rfl)
theorem dX8_pintsIn_16 : decode cX8_pintsIn 16 = .ok (.iload_n 3, 1) := dk_29 (dk_at dksX8_pintsIn_0 16 rfl rfl)
theorem dX8_pintsIn_17 : decode cX8_pintsIn 17 = .ok (.invokevirtual 141, 3) := dk_182 0 141 (dk_at dksX8_pintsIn_0 17 rfl rfl)
theorem dX8_pintsIn_20 : decode cX8_pintsIn 20 = .ok (.invokestatic 134, 3) := dk_184 0 134 (dk_at dksX8_pintsIn_0 20 rfl rfl)
theorem dX8_pintsIn_23 : decode cX8_pintsIn 23 = .ok (.iadd, 1) := dk_96 (dk_at dksX8_pintsIn_0 23 rfl rfl)
theorem dX8_pintsIn_24 : decode cX8_pintsIn 24 = .ok (.istore_n 2, 1) := dk_61 (dk_at dksX8_pintsIn_1 0 rfl rfl)
theorem dX8_pintsIn_25 : decode cX8_pintsIn 25 = .ok (.iinc 3 1, 3) := dk_132 3 1 (dk_at dksX8_pintsIn_1 1 rfl rfl)
theorem dX8_pintsIn_28 : decode cX8_pintsIn 28 = .ok (.goto (-24), 3) := dk_167 255 232 (dk_at dksX8_pintsIn_1 4 rfl rfl)
theorem dX8_pintsIn_31 : decode cX8_pintsIn 31 = .ok (.iload_n 2, 1) := dk_28 (dk_at dksX8_pintsIn_1 7 rfl rfl)
theorem dX8_pintsIn_32 : decode cX8_pintsIn 32 = .ok (.ireturn, 1) := dk_172 (dk_at dksX8_pintsIn_1 8 rfl rfl)
def dkwX8_kindOf_0 : List UInt8 := [42, 42, 27, 28, 182, 0, 119, 3, 182, 0, 89, 172]
abbrev dktX8_kindOf_0 : List UInt8 := dkwX8_kindOf_0 ++ []
theorem dksX8_kindOf_0 : cX8_kindOf.data.toList.drop 0 = dktX8_kindOf_0 := by decide +kernel
theorem dX8_kindOf_0 : decode cX8_kindOf 0 = .ok (.aload_n 0, 1) := dk_42 (dk_at dksX8_kindOf_0 0 rfl rfl)
theorem dX8_kindOf_1 : decode cX8_kindOf 1 = .ok (.aload_n 0, 1) := dk_42 (dk_at dksX8_kindOf_0 1 rfl rfl)
theorem dX8_kindOf_2 : decode cX8_kindOf 2 = .ok (.iload_n 1, 1) := dk_27 (dk_at dksX8_kindOf_0 2 rfl rfl)
theorem dX8_kindOf_3 : decode cX8_kindOf 3 = .ok (.iload_n 2, 1) := dk_28 (dk_at dksX8_kindOf_0 3 rfl rfl)
theorem dX8_kindOf_4 : decode cX8_kindOf 4 = .ok (.invokevirtual 119, 3) := dk_182 0 119 (dk_at dksX8_kindOf_0 4 rfl rfl)
theorem dX8_kindOf_7 : decode cX8_kindOf 7 = .ok (.iconst 0, 1) := dk_3 (dk_at dksX8_kindOf_0 7 rfl rfl)
theorem dX8_kindOf_8 : decode cX8_kindOf 8 = .ok (.invokevirtual 89, 3) := dk_182 0 89 (dk_at dksX8_kindOf_0 8 rfl rfl)
theorem dX8_kindOf_11 : decode cX8_kindOf 11 = .ok (.ireturn, 1) := dk_172 (dk_at dksX8_kindOf_0 11 rfl rfl)
def dkwX8_parishesIn_1 : List UInt8 := [132, 3, 1, 167, 255, 233, 28, 172]
abbrev dktX8_parishesIn_1 : List UInt8 := dkwX8_parishesIn_1 ++ []
def dkwX8_parishesIn_0 : List UInt8 := [3, 61, 3, 62, 29, 42, 27, 182, 0, 128, 162, 0, 20, 28, 4, 42, 27, 29, 182, 0, 119, 120, 128, 61]
abbrev dktX8_parishesIn_0 : List UInt8 := dkwX8_parishesIn_0 ++ dktX8_parishesIn_1
theorem dksX8_parishesIn_0 : cX8_parishesIn.data.toList.drop 0 = dktX8_parishesIn_0 := by decide +kernel
theorem dksX8_parishesIn_1 : cX8_parishesIn.data.toList.drop 24 = dktX8_parishesIn_1 := dk_seg dksX8_parishesIn_0 24 rfl rfl
theorem dX8_parishesIn_0 : decode cX8_parishesIn 0 = .ok (.iconst 0, 1) := dk_3 (dk_at dksX8_parishesIn_0 0 rfl rfl)
theorem dX8_parishesIn_1 : decode cX8_parishesIn 1 = .ok (.istore_n 2, 1) := dk_61 (dk_at dksX8_parishesIn_0 1 rfl rfl)
theorem dX8_parishesIn_2 : decode cX8_parishesIn 2 = .ok (.iconst 0, 1) := dk_3 (dk_at dksX8_parishesIn_0 2 rfl rfl)
theorem dX8_parishesIn_3 : decode cX8_parishesIn 3 = .ok (.istore_n 3, 1) := dk_62 (dk_at dksX8_parishesIn_0 3 rfl rfl)
theorem dX8_parishesIn_4 : decode cX8_parishesIn 4 = .ok (.iload_n 3, 1) := dk_29 (dk_at dksX8_parishesIn_0 4 rfl rfl)
theorem dX8_parishesIn_5 : decode cX8_parishesIn 5 = .ok (.aload_n 0, 1) := dk_42 (dk_at dksX8_parishesIn_0 5 rfl rfl)
theorem dX8_parishesIn_6 : decode cX8_parishesIn 6 = .ok (.iload_n 1, 1) := dk_27 (dk_at dksX8_parishesIn_0 6 rfl rfl)
theorem dX8_parishesIn_7 : decode cX8_parishesIn 7 = .ok (.invokevirtual 128, 3) := dk_182 0 128 (dk_at dksX8_parishesIn_0 7 rfl rfl)
theorem dX8_parishesIn_10 : decode cX8_parishesIn 10 = .ok (.if_icmp .ge 20, 3) := dk_162 0 20 (dk_at dksX8_parishesIn_0 10 rfl rfl)
theorem dX8_parishesIn_13 : decode cX8_parishesIn 13 = .ok (.iload_n 2, 1) := dk_28 (dk_at dksX8_parishesIn_0 13 rfl rfl)
theorem dX8_parishesIn_14 : decode cX8_parishesIn 14 = .ok (.iconst 1, 1) := dk_4 (dk_at dksX8_parishesIn_0 14 rfl rfl)
theorem dX8_parishesIn_15 : decode cX8_parishesIn 15 = .ok (.aload_n 0, 1) := dk_42 (dk_at dksX8_parishesIn_0 15 rfl rfl)
theorem dX8_parishesIn_16 : decode cX8_parishesIn 16 = .ok (.iload_n 1, 1) := dk_27 (dk_at dksX8_parishesIn_0 16 rfl rfl)
theorem dX8_parishesIn_17 : decode cX8_parishesIn 17 = .ok (.iload_n 3, 1) := dk_29 (dk_at dksX8_parishesIn_0 17 rfl rfl)
theorem dX8_parishesIn_18 : decode cX8_parishesIn 18 = .ok (.invokevirtual 119, 3) := dk_182 0 119 (dk_at dksX8_parishesIn_0 18 rfl rfl)
theorem dX8_parishesIn_21 : decode cX8_parishesIn 21 = .ok (.ishl, 1) := dk_120 (dk_at dksX8_parishesIn_0 21 rfl rfl)
theorem dX8_parishesIn_22 : decode cX8_parishesIn 22 = .ok (.ior, 1) := dk_128 (dk_at dksX8_parishesIn_0 22 rfl rfl)
theorem dX8_parishesIn_23 : decode cX8_parishesIn 23 = .ok (.istore_n 2, 1) := dk_61 (dk_at dksX8_parishesIn_0 23 rfl rfl)
theorem dX8_parishesIn_24 : decode cX8_parishesIn 24 = .ok (.iinc 3 1, 3) := dk_132 3 1 (dk_at dksX8_parishesIn_1 0 rfl rfl)
theorem dX8_parishesIn_27 : decode cX8_parishesIn 27 = .ok (.goto (-23), 3) := dk_167 255 233 (dk_at dksX8_parishesIn_1 3 rfl rfl)
theorem dX8_parishesIn_30 : decode cX8_parishesIn 30 = .ok (.iload_n 2, 1) := dk_28 (dk_at dksX8_parishesIn_1 6 rfl rfl)
theorem dX8_parishesIn_31 : decode cX8_parishesIn 31 = .ok (.ireturn, 1) := dk_172 (dk_at dksX8_parishesIn_1 7 rfl rfl)
def dkwX8_lotOf_2 : List UInt8 := [160, 0, 13, 42, 27, 21, 4, 182, 0, 156, 167, 0, 5, 16, 254, 172]
abbrev dktX8_lotOf_2 : List UInt8 := dkwX8_lotOf_2 ++ []
def dkwX8_lotOf_1 : List UInt8 := [42, 27, 28, 182, 0, 153, 54, 4, 29, 154, 0, 13, 42, 27, 21, 4, 182, 0, 119, 167, 0, 20, 29, 4]
abbrev dktX8_lotOf_1 : List UInt8 := dkwX8_lotOf_1 ++ dktX8_lotOf_2
def dkwX8_lotOf_0 : List UInt8 := [27, 184, 0, 122, 153, 0, 18, 28, 3, 42, 27, 182, 0, 144, 4, 100, 184, 0, 56, 154, 0, 5, 2, 172]
abbrev dktX8_lotOf_0 : List UInt8 := dkwX8_lotOf_0 ++ dktX8_lotOf_1
theorem dksX8_lotOf_0 : cX8_lotOf.data.toList.drop 0 = dktX8_lotOf_0 := by decide +kernel
theorem dksX8_lotOf_1 : cX8_lotOf.data.toList.drop 24 = dktX8_lotOf_1 := dk_seg dksX8_lotOf_0 24 rfl rfl
theorem dksX8_lotOf_2 : cX8_lotOf.data.toList.drop 48 = dktX8_lotOf_2 := dk_seg dksX8_lotOf_1 24 rfl rfl
theorem dX8_lotOf_0 : decode cX8_lotOf 0 = .ok (.iload_n 1, 1) := dk_27 (dk_at dksX8_lotOf_0 0 rfl rfl)
theorem dX8_lotOf_1 : decode cX8_lotOf 1 = .ok (.invokestatic 122, 3) := dk_184 0 122 (dk_at dksX8_lotOf_0 1 rfl rfl)
theorem dX8_lotOf_4 : decode cX8_lotOf 4 = .ok (.ifCond .eq 18, 3) := dk_153 0 18 (dk_at dksX8_lotOf_0 4 rfl rfl)
theorem dX8_lotOf_7 : decode cX8_lotOf 7 = .ok (.iload_n 2, 1) := dk_28 (dk_at dksX8_lotOf_0 7 rfl rfl)
theorem dX8_lotOf_8 : decode cX8_lotOf 8 = .ok (.iconst 0, 1) := dk_3 (dk_at dksX8_lotOf_0 8 rfl rfl)
theorem dX8_lotOf_9 : decode cX8_lotOf 9 = .ok (.aload_n 0, 1) := dk_42 (dk_at dksX8_lotOf_0 9 rfl rfl)
theorem dX8_lotOf_10 : decode cX8_lotOf 10 = .ok (.iload_n 1, 1) := dk_27 (dk_at dksX8_lotOf_0 10 rfl rfl)
theorem dX8_lotOf_11 : decode cX8_lotOf 11 = .ok (.invokevirtual 144, 3) := dk_182 0 144 (dk_at dksX8_lotOf_0 11 rfl rfl)
theorem dX8_lotOf_14 : decode cX8_lotOf 14 = .ok (.iconst 1, 1) := dk_4 (dk_at dksX8_lotOf_0 14 rfl rfl)
theorem dX8_lotOf_15 : decode cX8_lotOf 15 = .ok (.isub, 1) := dk_100 (dk_at dksX8_lotOf_0 15 rfl rfl)
theorem dX8_lotOf_16 : decode cX8_lotOf 16 = .ok (.invokestatic 56, 3) := dk_184 0 56 (dk_at dksX8_lotOf_0 16 rfl rfl)
theorem dX8_lotOf_19 : decode cX8_lotOf 19 = .ok (.ifCond .ne 5, 3) := dk_154 0 5 (dk_at dksX8_lotOf_0 19 rfl rfl)
theorem dX8_lotOf_22 : decode cX8_lotOf 22 = .ok (.iconst (-1), 1) := dk_2 (dk_at dksX8_lotOf_0 22 rfl rfl)
theorem dX8_lotOf_23 : decode cX8_lotOf 23 = .ok (.ireturn, 1) := dk_172 (dk_at dksX8_lotOf_0 23 rfl rfl)
theorem dX8_lotOf_24 : decode cX8_lotOf 24 = .ok (.aload_n 0, 1) := dk_42 (dk_at dksX8_lotOf_1 0 rfl rfl)
theorem dX8_lotOf_25 : decode cX8_lotOf 25 = .ok (.iload_n 1, 1) := dk_27 (dk_at dksX8_lotOf_1 1 rfl rfl)
theorem dX8_lotOf_26 : decode cX8_lotOf 26 = .ok (.iload_n 2, 1) := dk_28 (dk_at dksX8_lotOf_1 2 rfl rfl)
theorem dX8_lotOf_27 : decode cX8_lotOf 27 = .ok (.invokevirtual 153, 3) := dk_182 0 153 (dk_at dksX8_lotOf_1 3 rfl rfl)
theorem dX8_lotOf_30 : decode cX8_lotOf 30 = .ok (.istore 4, 2) := dk_54 4 (dk_at dksX8_lotOf_1 6 rfl rfl)
theorem dX8_lotOf_32 : decode cX8_lotOf 32 = .ok (.iload_n 3, 1) := dk_29 (dk_at dksX8_lotOf_1 8 rfl rfl)
theorem dX8_lotOf_33 : decode cX8_lotOf 33 = .ok (.ifCond .ne 13, 3) := dk_154 0 13 (dk_at dksX8_lotOf_1 9 rfl rfl)
theorem dX8_lotOf_36 : decode cX8_lotOf 36 = .ok (.aload_n 0, 1) := dk_42 (dk_at dksX8_lotOf_1 12 rfl rfl)
theorem dX8_lotOf_37 : decode cX8_lotOf 37 = .ok (.iload_n 1, 1) := dk_27 (dk_at dksX8_lotOf_1 13 rfl rfl)
theorem dX8_lotOf_38 : decode cX8_lotOf 38 = .ok (.iload 4, 2) := dk_21 4 (dk_at dksX8_lotOf_1 14 rfl rfl)
theorem dX8_lotOf_40 : decode cX8_lotOf 40 = .ok (.invokevirtual 119, 3) := dk_182 0 119 (dk_at dksX8_lotOf_1 16 rfl rfl)
theorem dX8_lotOf_43 : decode cX8_lotOf 43 = .ok (.goto 20, 3) := dk_167 0 20 (dk_at dksX8_lotOf_1 19 rfl rfl)
theorem dX8_lotOf_46 : decode cX8_lotOf 46 = .ok (.iload_n 3, 1) := dk_29 (dk_at dksX8_lotOf_1 22 rfl rfl)
theorem dX8_lotOf_47 : decode cX8_lotOf 47 = .ok (.iconst 1, 1) := dk_4 (dk_at dksX8_lotOf_1 23 rfl rfl)
theorem dX8_lotOf_48 : decode cX8_lotOf 48 = .ok (.if_icmp .ne 13, 3) := dk_160 0 13 (dk_at dksX8_lotOf_2 0 rfl rfl)
theorem dX8_lotOf_51 : decode cX8_lotOf 51 = .ok (.aload_n 0, 1) := dk_42 (dk_at dksX8_lotOf_2 3 rfl rfl)
theorem dX8_lotOf_52 : decode cX8_lotOf 52 = .ok (.iload_n 1, 1) := dk_27 (dk_at dksX8_lotOf_2 4 rfl rfl)
theorem dX8_lotOf_53 : decode cX8_lotOf 53 = .ok (.iload 4, 2) := dk_21 4 (dk_at dksX8_lotOf_2 5 rfl rfl)
theorem dX8_lotOf_55 : decode cX8_lotOf 55 = .ok (.invokevirtual 156, 3) := dk_182 0 156 (dk_at dksX8_lotOf_2 7 rfl rfl)
theorem dX8_lotOf_58 : decode cX8_lotOf 58 = .ok (.goto 5, 3) := dk_167 0 5 (dk_at dksX8_lotOf_2 10 rfl rfl)
theorem dX8_lotOf_61 : decode cX8_lotOf 61 = .ok (.bipush (-2), 2) := dk_16 254 (dk_at dksX8_lotOf_2 13 rfl rfl)
theorem dX8_lotOf_63 : decode cX8_lotOf 63 = .ok (.ireturn, 1) := dk_172 (dk_at dksX8_lotOf_2 15 rfl rfl)
def dkwX8_lotAt_2 : List UInt8 := [167, 255, 216, 21, 4, 172]
abbrev dktX8_lotAt_2 : List UInt8 := dkwX8_lotAt_2 ++ []
def dkwX8_lotAt_1 : List UInt8 := [182, 0, 119, 42, 27, 21, 4, 4, 100, 182, 0, 119, 159, 0, 7, 4, 167, 0, 4, 3, 96, 62]
abbrev dktX8_lotAt_1 : List UInt8 := dkwX8_lotAt_1 ++ dktX8_lotAt_2
def dkwX8_lotAt_0 : List UInt8 := [2, 62, 2, 54, 4, 29, 28, 162, 0, 41, 132, 4, 1, 29, 21, 4, 153, 0, 22, 42, 27, 21, 4]
abbrev dktX8_lotAt_0 : List UInt8 := dkwX8_lotAt_0 ++ dktX8_lotAt_1
theorem dksX8_lotAt_0 : cX8_lotAt.data.toList.drop 0 = dktX8_lotAt_0 := by decide +kernel
theorem dksX8_lotAt_1 : cX8_lotAt.data.toList.drop 23 = dktX8_lotAt_1 := dk_seg dksX8_lotAt_0 23 rfl rfl
theorem dksX8_lotAt_2 : cX8_lotAt.data.toList.drop 45 = dktX8_lotAt_2 := dk_seg dksX8_lotAt_1 22 rfl rfl
theorem dX8_lotAt_0 : decode cX8_lotAt 0 = .ok (.iconst (-1), 1) := dk_2 (dk_at dksX8_lotAt_0 0 rfl rfl)
theorem dX8_lotAt_1 : decode cX8_lotAt 1 = .ok (.istore_n 3, 1) := dk_62 (dk_at dksX8_lotAt_0 1 rfl rfl)
theorem dX8_lotAt_2 : decode cX8_lotAt 2 = .ok (.iconst (-1), 1) := dk_2 (dk_at dksX8_lotAt_0 2 rfl rfl)
theorem dX8_lotAt_3 : decode cX8_lotAt 3 = .ok (.istore 4, 2) := dk_54 4 (dk_at dksX8_lotAt_0 3 rfl rfl)
theorem dX8_lotAt_5 : decode cX8_lotAt 5 = .ok (.iload_n 3, 1) := dk_29 (dk_at dksX8_lotAt_0 5 rfl rfl)
theorem dX8_lotAt_6 : decode cX8_lotAt 6 = .ok (.iload_n 2, 1) := dk_28 (dk_at dksX8_lotAt_0 6 rfl rfl)
theorem dX8_lotAt_7 : decode cX8_lotAt 7 = .ok (.if_icmp .ge 41, 3) := dk_162 0 41 (dk_at dksX8_lotAt_0 7 rfl rfl)
theorem dX8_lotAt_10 : decode cX8_lotAt 10 = .ok (.iinc 4 1, 3) := dk_132 4 1 (dk_at dksX8_lotAt_0 10 rfl rfl)
theorem dX8_lotAt_13 : decode cX8_lotAt 13 = .ok (.iload_n 3, 1) := dk_29 (dk_at dksX8_lotAt_0 13 rfl rfl)
theorem dX8_lotAt_14 : decode cX8_lotAt 14 = .ok (.iload 4, 2) := dk_21 4 (dk_at dksX8_lotAt_0 14 rfl rfl)
theorem dX8_lotAt_16 : decode cX8_lotAt 16 = .ok (.ifCond .eq 22, 3) := dk_153 0 22 (dk_at dksX8_lotAt_0 16 rfl rfl)
theorem dX8_lotAt_19 : decode cX8_lotAt 19 = .ok (.aload_n 0, 1) := dk_42 (dk_at dksX8_lotAt_0 19 rfl rfl)
theorem dX8_lotAt_20 : decode cX8_lotAt 20 = .ok (.iload_n 1, 1) := dk_27 (dk_at dksX8_lotAt_0 20 rfl rfl)
theorem dX8_lotAt_21 : decode cX8_lotAt 21 = .ok (.iload 4, 2) := dk_21 4 (dk_at dksX8_lotAt_0 21 rfl rfl)
theorem dX8_lotAt_23 : decode cX8_lotAt 23 = .ok (.invokevirtual 119, 3) := dk_182 0 119 (dk_at dksX8_lotAt_1 0 rfl rfl)
theorem dX8_lotAt_26 : decode cX8_lotAt 26 = .ok (.aload_n 0, 1) := dk_42 (dk_at dksX8_lotAt_1 3 rfl rfl)
theorem dX8_lotAt_27 : decode cX8_lotAt 27 = .ok (.iload_n 1, 1) := dk_27 (dk_at dksX8_lotAt_1 4 rfl rfl)
theorem dX8_lotAt_28 : decode cX8_lotAt 28 = .ok (.iload 4, 2) := dk_21 4 (dk_at dksX8_lotAt_1 5 rfl rfl)
theorem dX8_lotAt_30 : decode cX8_lotAt 30 = .ok (.iconst 1, 1) := dk_4 (dk_at dksX8_lotAt_1 7 rfl rfl)
theorem dX8_lotAt_31 : decode cX8_lotAt 31 = .ok (.isub, 1) := dk_100 (dk_at dksX8_lotAt_1 8 rfl rfl)
theorem dX8_lotAt_32 : decode cX8_lotAt 32 = .ok (.invokevirtual 119, 3) := dk_182 0 119 (dk_at dksX8_lotAt_1 9 rfl rfl)
theorem dX8_lotAt_35 : decode cX8_lotAt 35 = .ok (.if_icmp .eq 7, 3) := dk_159 0 7 (dk_at dksX8_lotAt_1 12 rfl rfl)
theorem dX8_lotAt_38 : decode cX8_lotAt 38 = .ok (.iconst 1, 1) := dk_4 (dk_at dksX8_lotAt_1 15 rfl rfl)
theorem dX8_lotAt_39 : decode cX8_lotAt 39 = .ok (.goto 4, 3) := dk_167 0 4 (dk_at dksX8_lotAt_1 16 rfl rfl)
theorem dX8_lotAt_42 : decode cX8_lotAt 42 = .ok (.iconst 0, 1) := dk_3 (dk_at dksX8_lotAt_1 19 rfl rfl)
theorem dX8_lotAt_43 : decode cX8_lotAt 43 = .ok (.iadd, 1) := dk_96 (dk_at dksX8_lotAt_1 20 rfl rfl)
theorem dX8_lotAt_44 : decode cX8_lotAt 44 = .ok (.istore_n 3, 1) := dk_62 (dk_at dksX8_lotAt_1 21 rfl rfl)
theorem dX8_lotAt_45 : decode cX8_lotAt 45 = .ok (.goto (-40), 3) := dk_167 255 216 (dk_at dksX8_lotAt_2 0 rfl rfl)
theorem dX8_lotAt_48 : decode cX8_lotAt 48 = .ok (.iload 4, 2) := dk_21 4 (dk_at dksX8_lotAt_2 3 rfl rfl)
theorem dX8_lotAt_50 : decode cX8_lotAt 50 = .ok (.ireturn, 1) := dk_172 (dk_at dksX8_lotAt_2 5 rfl rfl)
def dkwX8_lotSize_1 : List UInt8 := [160, 0, 9, 132, 3, 1, 167, 255, 229, 29, 28, 100, 172]
abbrev dktX8_lotSize_1 : List UInt8 := dkwX8_lotSize_1 ++ []
def dkwX8_lotSize_0 : List UInt8 := [28, 62, 29, 42, 27, 182, 0, 128, 162, 0, 24, 42, 27, 29, 182, 0, 119, 42, 27, 28, 182, 0, 119]
abbrev dktX8_lotSize_0 : List UInt8 := dkwX8_lotSize_0 ++ dktX8_lotSize_1
theorem dksX8_lotSize_0 : cX8_lotSize.data.toList.drop 0 = dktX8_lotSize_0 := by decide +kernel
theorem dksX8_lotSize_1 : cX8_lotSize.data.toList.drop 23 = dktX8_lotSize_1 := dk_seg dksX8_lotSize_0 23 rfl rfl
theorem dX8_lotSize_0 : decode cX8_lotSize 0 = .ok (.iload_n 2, 1) := dk_28 (dk_at dksX8_lotSize_0 0 rfl rfl)
theorem dX8_lotSize_1 : decode cX8_lotSize 1 = .ok (.istore_n 3, 1) := dk_62 (dk_at dksX8_lotSize_0 1 rfl rfl)
theorem dX8_lotSize_2 : decode cX8_lotSize 2 = .ok (.iload_n 3, 1) := dk_29 (dk_at dksX8_lotSize_0 2 rfl rfl)
theorem dX8_lotSize_3 : decode cX8_lotSize 3 = .ok (.aload_n 0, 1) := dk_42 (dk_at dksX8_lotSize_0 3 rfl rfl)
theorem dX8_lotSize_4 : decode cX8_lotSize 4 = .ok (.iload_n 1, 1) := dk_27 (dk_at dksX8_lotSize_0 4 rfl rfl)
theorem dX8_lotSize_5 : decode cX8_lotSize 5 = .ok (.invokevirtual 128, 3) := dk_182 0 128 (dk_at dksX8_lotSize_0 5 rfl rfl)
theorem dX8_lotSize_8 : decode cX8_lotSize 8 = .ok (.if_icmp .ge 24, 3) := dk_162 0 24 (dk_at dksX8_lotSize_0 8 rfl rfl)
theorem dX8_lotSize_11 : decode cX8_lotSize 11 = .ok (.aload_n 0, 1) := dk_42 (dk_at dksX8_lotSize_0 11 rfl rfl)
theorem dX8_lotSize_12 : decode cX8_lotSize 12 = .ok (.iload_n 1, 1) := dk_27 (dk_at dksX8_lotSize_0 12 rfl rfl)
theorem dX8_lotSize_13 : decode cX8_lotSize 13 = .ok (.iload_n 3, 1) := dk_29 (dk_at dksX8_lotSize_0 13 rfl rfl)
theorem dX8_lotSize_14 : decode cX8_lotSize 14 = .ok (.invokevirtual 119, 3) := dk_182 0 119 (dk_at dksX8_lotSize_0 14 rfl rfl)
theorem dX8_lotSize_17 : decode cX8_lotSize 17 = .ok (.aload_n 0, 1) := dk_42 (dk_at dksX8_lotSize_0 17 rfl rfl)
theorem dX8_lotSize_18 : decode cX8_lotSize 18 = .ok (.iload_n 1, 1) := dk_27 (dk_at dksX8_lotSize_0 18 rfl rfl)
theorem dX8_lotSize_19 : decode cX8_lotSize 19 = .ok (.iload_n 2, 1) := dk_28 (dk_at dksX8_lotSize_0 19 rfl rfl)
theorem dX8_lotSize_20 : decode cX8_lotSize 20 = .ok (.invokevirtual 119, 3) := dk_182 0 119 (dk_at dksX8_lotSize_0 20 rfl rfl)
theorem dX8_lotSize_23 : decode cX8_lotSize 23 = .ok (.if_icmp .ne 9, 3) := dk_160 0 9 (dk_at dksX8_lotSize_1 0 rfl rfl)
theorem dX8_lotSize_26 : decode cX8_lotSize 26 = .ok (.iinc 3 1, 3) := dk_132 3 1 (dk_at dksX8_lotSize_1 3 rfl rfl)
theorem dX8_lotSize_29 : decode cX8_lotSize 29 = .ok (.goto (-27), 3) := dk_167 255 229 (dk_at dksX8_lotSize_1 6 rfl rfl)
theorem dX8_lotSize_32 : decode cX8_lotSize 32 = .ok (.iload_n 3, 1) := dk_29 (dk_at dksX8_lotSize_1 9 rfl rfl)
theorem dX8_lotSize_33 : decode cX8_lotSize 33 = .ok (.iload_n 2, 1) := dk_28 (dk_at dksX8_lotSize_1 10 rfl rfl)
theorem dX8_lotSize_34 : decode cX8_lotSize 34 = .ok (.isub, 1) := dk_100 (dk_at dksX8_lotSize_1 11 rfl rfl)
theorem dX8_lotSize_35 : decode cX8_lotSize 35 = .ok (.ireturn, 1) := dk_172 (dk_at dksX8_lotSize_1 12 rfl rfl)
def dkwX8_thresh_0 : List UInt8 := [42, 182, 0, 97, 42, 42, 27, 28, 29, 182, 0, 172, 182, 0, 104, 172]
abbrev dktX8_thresh_0 : List UInt8 := dkwX8_thresh_0 ++ []
theorem dksX8_thresh_0 : cX8_thresh.data.toList.drop 0 = dktX8_thresh_0 := by decide +kernel
theorem dX8_thresh_0 : decode cX8_thresh 0 = .ok (.aload_n 0, 1) := dk_42 (dk_at dksX8_thresh_0 0 rfl rfl)
theorem dX8_thresh_1 : decode cX8_thresh 1 = .ok (.invokevirtual 97, 3) := dk_182 0 97 (dk_at dksX8_thresh_0 1 rfl rfl)
theorem dX8_thresh_4 : decode cX8_thresh 4 = .ok (.aload_n 0, 1) := dk_42 (dk_at dksX8_thresh_0 4 rfl rfl)
theorem dX8_thresh_5 : decode cX8_thresh 5 = .ok (.aload_n 0, 1) := dk_42 (dk_at dksX8_thresh_0 5 rfl rfl)
theorem dX8_thresh_6 : decode cX8_thresh 6 = .ok (.iload_n 1, 1) := dk_27 (dk_at dksX8_thresh_0 6 rfl rfl)
theorem dX8_thresh_7 : decode cX8_thresh 7 = .ok (.iload_n 2, 1) := dk_28 (dk_at dksX8_thresh_0 7 rfl rfl)
theorem dX8_thresh_8 : decode cX8_thresh 8 = .ok (.iload_n 3, 1) := dk_29 (dk_at dksX8_thresh_0 8 rfl rfl)
theorem dX8_thresh_9 : decode cX8_thresh 9 = .ok (.invokevirtual 172, 3) := dk_182 0 172 (dk_at dksX8_thresh_0 9 rfl rfl)
theorem dX8_thresh_12 : decode cX8_thresh 12 = .ok (.invokevirtual 104, 3) := dk_182 0 104 (dk_at dksX8_thresh_0 12 rfl rfl)
theorem dX8_thresh_15 : decode cX8_thresh 15 = .ok (.ireturn, 1) := dk_172 (dk_at dksX8_thresh_0 15 rfl rfl)
def dkwX8_threshes_8 : List UInt8 := [104, 96, 4, 96, 21, 5, 79, 42, 27, 3, 182, 0, 165, 172]
abbrev dktX8_threshes_8 : List UInt8 := dkwX8_threshes_8 ++ []
def dkwX8_threshes_7 : List UInt8 := [180, 0, 9, 17, 1, 127, 7, 27, 104, 96, 92, 46, 29, 96, 79, 42, 180, 0, 9, 17, 1, 127, 7, 27]
abbrev dktX8_threshes_7 : List UInt8 := dkwX8_threshes_7 ++ dktX8_threshes_8
def dkwX8_threshes_6 : List UInt8 := [16, 6, 16, 20, 42, 27, 3, 182, 0, 165, 100, 3, 3, 182, 0, 100, 172, 42, 28, 29, 182, 0, 168, 42]
abbrev dktX8_threshes_6 : List UInt8 := dkwX8_threshes_6 ++ dktX8_threshes_7
def dkwX8_threshes_5 : List UInt8 := [182, 0, 165, 3, 3, 182, 0, 100, 172, 16, 20, 42, 27, 3, 182, 0, 165, 100, 29, 162, 0, 21, 42]
abbrev dktX8_threshes_5 : List UInt8 := dkwX8_threshes_5 ++ dktX8_threshes_6
def dkwX8_threshes_4 : List UInt8 := [182, 0, 165, 158, 0, 28, 42, 27, 4, 182, 0, 165, 21, 5, 159, 0, 17, 42, 8, 42, 27, 4]
abbrev dktX8_threshes_4 : List UInt8 := dkwX8_threshes_4 ++ dktX8_threshes_5
def dkwX8_threshes_3 : List UInt8 := [3, 182, 0, 100, 172, 42, 28, 42, 28, 182, 0, 128, 4, 100, 182, 0, 141, 54, 5, 42, 27, 3]
abbrev dktX8_threshes_3 : List UInt8 := dkwX8_threshes_3 ++ dktX8_threshes_4
def dkwX8_threshes_2 : List UInt8 := [182, 0, 100, 172, 42, 28, 29, 182, 0, 162, 54, 4, 21, 4, 2, 159, 0, 14, 42, 16, 7, 21, 4, 3]
abbrev dktX8_threshes_2 : List UInt8 := dkwX8_threshes_2 ++ dktX8_threshes_3
def dkwX8_threshes_1 : List UInt8 := [154, 0, 6, 16, 254, 172, 42, 28, 182, 0, 128, 29, 162, 0, 16, 42, 7, 42, 28, 182, 0, 128, 3, 3]
abbrev dktX8_threshes_1 : List UInt8 := dkwX8_threshes_1 ++ dktX8_threshes_2
def dkwX8_threshes_0 : List UInt8 := [27, 184, 0, 159, 153, 0, 10, 28, 184, 0, 122, 154, 0, 5, 2, 172, 29, 4, 16, 20, 184, 0, 56]
abbrev dktX8_threshes_0 : List UInt8 := dkwX8_threshes_0 ++ dktX8_threshes_1
theorem dksX8_threshes_0 : cX8_threshes.data.toList.drop 0 = dktX8_threshes_0 := by decide +kernel
theorem dksX8_threshes_1 : cX8_threshes.data.toList.drop 23 = dktX8_threshes_1 := dk_seg dksX8_threshes_0 23 rfl rfl
theorem dksX8_threshes_2 : cX8_threshes.data.toList.drop 47 = dktX8_threshes_2 := dk_seg dksX8_threshes_1 24 rfl rfl
theorem dksX8_threshes_3 : cX8_threshes.data.toList.drop 71 = dktX8_threshes_3 := dk_seg dksX8_threshes_2 24 rfl rfl
theorem dksX8_threshes_4 : cX8_threshes.data.toList.drop 93 = dktX8_threshes_4 := dk_seg dksX8_threshes_3 22 rfl rfl
theorem dksX8_threshes_5 : cX8_threshes.data.toList.drop 115 = dktX8_threshes_5 := dk_seg dksX8_threshes_4 22 rfl rfl
theorem dksX8_threshes_6 : cX8_threshes.data.toList.drop 138 = dktX8_threshes_6 := dk_seg dksX8_threshes_5 23 rfl rfl
theorem dksX8_threshes_7 : cX8_threshes.data.toList.drop 162 = dktX8_threshes_7 := dk_seg dksX8_threshes_6 24 rfl rfl
theorem dksX8_threshes_8 : cX8_threshes.data.toList.drop 186 = dktX8_threshes_8 := dk_seg dksX8_threshes_7 24 rfl rfl
theorem dX8_threshes_0 : decode cX8_threshes 0 = .ok (.iload_n 1, 1) := dk_27 (dk_at dksX8_threshes_0 0 rfl rfl)
theorem dX8_threshes_1 : decode cX8_threshes 1 = .ok (.invokestatic 159, 3) := dk_184 0 159 (dk_at dksX8_threshes_0 1 rfl rfl)
theorem dX8_threshes_4 : decode cX8_threshes 4 = .ok (.ifCond .eq 10, 3) := dk_153 0 10 (dk_at dksX8_threshes_0 4 rfl rfl)
theorem dX8_threshes_7 : decode cX8_threshes 7 = .ok (.iload_n 2, 1) := dk_28 (dk_at dksX8_threshes_0 7 rfl rfl)
theorem dX8_threshes_8 : decode cX8_threshes 8 = .ok (.invokestatic 122, 3) := dk_184 0 122 (dk_at dksX8_threshes_0 8 rfl rfl)
theorem dX8_threshes_11 : decode cX8_threshes 11 = .ok (.ifCond .ne 5, 3) := dk_154 0 5 (dk_at dksX8_threshes_0 11 rfl rfl)
theorem dX8_threshes_14 : decode cX8_threshes 14 = .ok (.iconst (-1), 1) := dk_2 (dk_at dksX8_threshes_0 14 rfl rfl)
theorem dX8_threshes_15 : decode cX8_threshes 15 = .ok (.ireturn, 1) := dk_172 (dk_at dksX8_threshes_0 15 rfl rfl)
theorem dX8_threshes_16 : decode cX8_threshes 16 = .ok (.iload_n 3, 1) := dk_29 (dk_at dksX8_threshes_0 16 rfl rfl)
theorem dX8_threshes_17 : decode cX8_threshes 17 = .ok (.iconst 1, 1) := dk_4 (dk_at dksX8_threshes_0 17 rfl rfl)
theorem dX8_threshes_18 : decode cX8_threshes 18 = .ok (.bipush 20, 2) := dk_16 20 (dk_at dksX8_threshes_0 18 rfl rfl)
theorem dX8_threshes_20 : decode cX8_threshes 20 = .ok (.invokestatic 56, 3) := dk_184 0 56 (dk_at dksX8_threshes_0 20 rfl rfl)
theorem dX8_threshes_23 : decode cX8_threshes 23 = .ok (.ifCond .ne 6, 3) := dk_154 0 6 (dk_at dksX8_threshes_1 0 rfl rfl)
theorem dX8_threshes_26 : decode cX8_threshes 26 = .ok (.bipush (-2), 2) := dk_16 254 (dk_at dksX8_threshes_1 3 rfl rfl)
theorem dX8_threshes_28 : decode cX8_threshes 28 = .ok (.ireturn, 1) := dk_172 (dk_at dksX8_threshes_1 5 rfl rfl)
theorem dX8_threshes_29 : decode cX8_threshes 29 = .ok (.aload_n 0, 1) := dk_42 (dk_at dksX8_threshes_1 6 rfl rfl)
theorem dX8_threshes_30 : decode cX8_threshes 30 = .ok (.iload_n 2, 1) := dk_28 (dk_at dksX8_threshes_1 7 rfl rfl)
theorem dX8_threshes_31 : decode cX8_threshes 31 = .ok (.invokevirtual 128, 3) := dk_182 0 128 (dk_at dksX8_threshes_1 8 rfl rfl)
theorem dX8_threshes_34 : decode cX8_threshes 34 = .ok (.iload_n 3, 1) := dk_29 (dk_at dksX8_threshes_1 11 rfl rfl)
theorem dX8_threshes_35 : decode cX8_threshes 35 = .ok (.if_icmp .ge 16, 3) := dk_162 0 16 (dk_at dksX8_threshes_1 12 rfl rfl)
theorem dX8_threshes_38 : decode cX8_threshes 38 = .ok (.aload_n 0, 1) := dk_42 (dk_at dksX8_threshes_1 15 rfl rfl)
theorem dX8_threshes_39 : decode cX8_threshes 39 = .ok (.iconst 4, 1) := dk_7 (dk_at dksX8_threshes_1 16 rfl rfl)
theorem dX8_threshes_40 : decode cX8_threshes 40 = .ok (.aload_n 0, 1) := dk_42 (dk_at dksX8_threshes_1 17 rfl rfl)
theorem dX8_threshes_41 : decode cX8_threshes 41 = .ok (.iload_n 2, 1) := dk_28 (dk_at dksX8_threshes_1 18 rfl rfl)
theorem dX8_threshes_42 : decode cX8_threshes 42 = .ok (.invokevirtual 128, 3) := dk_182 0 128 (dk_at dksX8_threshes_1 19 rfl rfl)
theorem dX8_threshes_45 : decode cX8_threshes 45 = .ok (.iconst 0, 1) := dk_3 (dk_at dksX8_threshes_1 22 rfl rfl)
theorem dX8_threshes_46 : decode cX8_threshes 46 = .ok (.iconst 0, 1) := dk_3 (dk_at dksX8_threshes_1 23 rfl rfl)
theorem dX8_threshes_47 : decode cX8_threshes 47 = .ok (.invokevirtual 100, 3) := dk_182 0 100 (dk_at dksX8_threshes_2 0 rfl rfl)
theorem dX8_threshes_50 : decode cX8_threshes 50 = .ok (.ireturn, 1) := dk_172 (dk_at dksX8_threshes_2 3 rfl rfl)
theorem dX8_threshes_51 : decode cX8_threshes 51 = .ok (.aload_n 0, 1) := dk_42 (dk_at dksX8_threshes_2 4 rfl rfl)
theorem dX8_threshes_52 : decode cX8_threshes 52 = .ok (.iload_n 2, 1) := dk_28 (dk_at dksX8_threshes_2 5 rfl rfl)
theorem dX8_threshes_53 : decode cX8_threshes 53 = .ok (.iload_n 3, 1) := dk_29 (dk_at dksX8_threshes_2 6 rfl rfl)
theorem dX8_threshes_54 : decode cX8_threshes 54 = .ok (.invokevirtual 162, 3) := dk_182 0 162 (dk_at dksX8_threshes_2 7 rfl rfl)
theorem dX8_threshes_57 : decode cX8_threshes 57 = .ok (.istore 4, 2) := dk_54 4 (dk_at dksX8_threshes_2 10 rfl rfl)
theorem dX8_threshes_59 : decode cX8_threshes 59 = .ok (.iload 4, 2) := dk_21 4 (dk_at dksX8_threshes_2 12 rfl rfl)
theorem dX8_threshes_61 : decode cX8_threshes 61 = .ok (.iconst (-1), 1) := dk_2 (dk_at dksX8_threshes_2 14 rfl rfl)
theorem dX8_threshes_62 : decode cX8_threshes 62 = .ok (.if_icmp .eq 14, 3) := dk_159 0 14 (dk_at dksX8_threshes_2 15 rfl rfl)
theorem dX8_threshes_65 : decode cX8_threshes 65 = .ok (.aload_n 0, 1) := dk_42 (dk_at dksX8_threshes_2 18 rfl rfl)
theorem dX8_threshes_66 : decode cX8_threshes 66 = .ok (.bipush 7, 2) := dk_16 7 (dk_at dksX8_threshes_2 19 rfl rfl)
theorem dX8_threshes_68 : decode cX8_threshes 68 = .ok (.iload 4, 2) := dk_21 4 (dk_at dksX8_threshes_2 21 rfl rfl)
theorem dX8_threshes_70 : decode cX8_threshes 70 = .ok (.iconst 0, 1) := dk_3 (dk_at dksX8_threshes_2 23 rfl rfl)
theorem dX8_threshes_71 : decode cX8_threshes 71 = .ok (.iconst 0, 1) := dk_3 (dk_at dksX8_threshes_3 0 rfl rfl)
theorem dX8_threshes_72 : decode cX8_threshes 72 = .ok (.invokevirtual 100, 3) := dk_182 0 100 (dk_at dksX8_threshes_3 1 rfl rfl)
theorem dX8_threshes_75 : decode cX8_threshes 75 = .ok (.ireturn, 1) := dk_172 (dk_at dksX8_threshes_3 4 rfl rfl)
theorem dX8_threshes_76 : decode cX8_threshes 76 = .ok (.aload_n 0, 1) := dk_42 (dk_at dksX8_threshes_3 5 rfl rfl)
theorem dX8_threshes_77 : decode cX8_threshes 77 = .ok (.iload_n 2, 1) := dk_28 (dk_at dksX8_threshes_3 6 rfl rfl)
theorem dX8_threshes_78 : decode cX8_threshes 78 = .ok (.aload_n 0, 1) := dk_42 (dk_at dksX8_threshes_3 7 rfl rfl)
theorem dX8_threshes_79 : decode cX8_threshes 79 = .ok (.iload_n 2, 1) := dk_28 (dk_at dksX8_threshes_3 8 rfl rfl)
theorem dX8_threshes_80 : decode cX8_threshes 80 = .ok (.invokevirtual 128, 3) := dk_182 0 128 (dk_at dksX8_threshes_3 9 rfl rfl)
theorem dX8_threshes_83 : decode cX8_threshes 83 = .ok (.iconst 1, 1) := dk_4 (dk_at dksX8_threshes_3 12 rfl rfl)
theorem dX8_threshes_84 : decode cX8_threshes 84 = .ok (.isub, 1) := dk_100 (dk_at dksX8_threshes_3 13 rfl rfl)
theorem dX8_threshes_85 : decode cX8_threshes 85 = .ok (.invokevirtual 141, 3) := dk_182 0 141 (dk_at dksX8_threshes_3 14 rfl rfl)
theorem dX8_threshes_88 : decode cX8_threshes 88 = .ok (.istore 5, 2) := dk_54 5 (dk_at dksX8_threshes_3 17 rfl rfl)
theorem dX8_threshes_90 : decode cX8_threshes 90 = .ok (.aload_n 0, 1) := dk_42 (dk_at dksX8_threshes_3 19 rfl rfl)
theorem dX8_threshes_91 : decode cX8_threshes 91 = .ok (.iload_n 1, 1) := dk_27 (dk_at dksX8_threshes_3 20 rfl rfl)
theorem dX8_threshes_92 : decode cX8_threshes 92 = .ok (.iconst 0, 1) := dk_3 (dk_at dksX8_threshes_3 21 rfl rfl)
theorem dX8_threshes_93 : decode cX8_threshes 93 = .ok (.invokevirtual 165, 3) := dk_182 0 165 (dk_at dksX8_threshes_4 0 rfl rfl)
theorem dX8_threshes_96 : decode cX8_threshes 96 = .ok (.ifCond .le 28, 3) := dk_158 0 28 (dk_at dksX8_threshes_4 3 rfl rfl)
theorem dX8_threshes_99 : decode cX8_threshes 99 = .ok (.aload_n 0, 1) := dk_42 (dk_at dksX8_threshes_4 6 rfl rfl)
theorem dX8_threshes_100 : decode cX8_threshes 100 = .ok (.iload_n 1, 1) := dk_27 (dk_at dksX8_threshes_4 7 rfl rfl)
theorem dX8_threshes_101 : decode cX8_threshes 101 = .ok (.iconst 1, 1) := dk_4 (dk_at dksX8_threshes_4 8 rfl rfl)
theorem dX8_threshes_102 : decode cX8_threshes 102 = .ok (.invokevirtual 165, 3) := dk_182 0 165 (dk_at dksX8_threshes_4 9 rfl rfl)
theorem dX8_threshes_105 : decode cX8_threshes 105 = .ok (.iload 5, 2) := dk_21 5 (dk_at dksX8_threshes_4 12 rfl rfl)
theorem dX8_threshes_107 : decode cX8_threshes 107 = .ok (.if_icmp .eq 17, 3) := dk_159 0 17 (dk_at dksX8_threshes_4 14 rfl rfl)
theorem dX8_threshes_110 : decode cX8_threshes 110 = .ok (.aload_n 0, 1) := dk_42 (dk_at dksX8_threshes_4 17 rfl rfl)
theorem dX8_threshes_111 : decode cX8_threshes 111 = .ok (.iconst 5, 1) := dk_8 (dk_at dksX8_threshes_4 18 rfl rfl)
theorem dX8_threshes_112 : decode cX8_threshes 112 = .ok (.aload_n 0, 1) := dk_42 (dk_at dksX8_threshes_4 19 rfl rfl)
theorem dX8_threshes_113 : decode cX8_threshes 113 = .ok (.iload_n 1, 1) := dk_27 (dk_at dksX8_threshes_4 20 rfl rfl)
theorem dX8_threshes_114 : decode cX8_threshes 114 = .ok (.iconst 1, 1) := dk_4 (dk_at dksX8_threshes_4 21 rfl rfl)
theorem dX8_threshes_115 : decode cX8_threshes 115 = .ok (.invokevirtual 165, 3) := dk_182 0 165 (dk_at dksX8_threshes_5 0 rfl rfl)
theorem dX8_threshes_118 : decode cX8_threshes 118 = .ok (.iconst 0, 1) := dk_3 (dk_at dksX8_threshes_5 3 rfl rfl)
theorem dX8_threshes_119 : decode cX8_threshes 119 = .ok (.iconst 0, 1) := dk_3 (dk_at dksX8_threshes_5 4 rfl rfl)
theorem dX8_threshes_120 : decode cX8_threshes 120 = .ok (.invokevirtual 100, 3) := dk_182 0 100 (dk_at dksX8_threshes_5 5 rfl rfl)
theorem dX8_threshes_123 : decode cX8_threshes 123 = .ok (.ireturn, 1) := dk_172 (dk_at dksX8_threshes_5 8 rfl rfl)
theorem dX8_threshes_124 : decode cX8_threshes 124 = .ok (.bipush 20, 2) := dk_16 20 (dk_at dksX8_threshes_5 9 rfl rfl)
theorem dX8_threshes_126 : decode cX8_threshes 126 = .ok (.aload_n 0, 1) := dk_42 (dk_at dksX8_threshes_5 11 rfl rfl)
theorem dX8_threshes_127 : decode cX8_threshes 127 = .ok (.iload_n 1, 1) := dk_27 (dk_at dksX8_threshes_5 12 rfl rfl)
theorem dX8_threshes_128 : decode cX8_threshes 128 = .ok (.iconst 0, 1) := dk_3 (dk_at dksX8_threshes_5 13 rfl rfl)
theorem dX8_threshes_129 : decode cX8_threshes 129 = .ok (.invokevirtual 165, 3) := dk_182 0 165 (dk_at dksX8_threshes_5 14 rfl rfl)
theorem dX8_threshes_132 : decode cX8_threshes 132 = .ok (.isub, 1) := dk_100 (dk_at dksX8_threshes_5 17 rfl rfl)
theorem dX8_threshes_133 : decode cX8_threshes 133 = .ok (.iload_n 3, 1) := dk_29 (dk_at dksX8_threshes_5 18 rfl rfl)
theorem dX8_threshes_134 : decode cX8_threshes 134 = .ok (.if_icmp .ge 21, 3) := dk_162 0 21 (dk_at dksX8_threshes_5 19 rfl rfl)
theorem dX8_threshes_137 : decode cX8_threshes 137 = .ok (.aload_n 0, 1) := dk_42 (dk_at dksX8_threshes_5 22 rfl rfl)
theorem dX8_threshes_138 : decode cX8_threshes 138 = .ok (.bipush 6, 2) := dk_16 6 (dk_at dksX8_threshes_6 0 rfl rfl)
theorem dX8_threshes_140 : decode cX8_threshes 140 = .ok (.bipush 20, 2) := dk_16 20 (dk_at dksX8_threshes_6 2 rfl rfl)
theorem dX8_threshes_142 : decode cX8_threshes 142 = .ok (.aload_n 0, 1) := dk_42 (dk_at dksX8_threshes_6 4 rfl rfl)
theorem dX8_threshes_143 : decode cX8_threshes 143 = .ok (.iload_n 1, 1) := dk_27 (dk_at dksX8_threshes_6 5 rfl rfl)
theorem dX8_threshes_144 : decode cX8_threshes 144 = .ok (.iconst 0, 1) := dk_3 (dk_at dksX8_threshes_6 6 rfl rfl)
theorem dX8_threshes_145 : decode cX8_threshes 145 = .ok (.invokevirtual 165, 3) := dk_182 0 165 (dk_at dksX8_threshes_6 7 rfl rfl)
theorem dX8_threshes_148 : decode cX8_threshes 148 = .ok (.isub, 1) := dk_100 (dk_at dksX8_threshes_6 10 rfl rfl)
theorem dX8_threshes_149 : decode cX8_threshes 149 = .ok (.iconst 0, 1) := dk_3 (dk_at dksX8_threshes_6 11 rfl rfl)
theorem dX8_threshes_150 : decode cX8_threshes 150 = .ok (.iconst 0, 1) := dk_3 (dk_at dksX8_threshes_6 12 rfl rfl)
theorem dX8_threshes_151 : decode cX8_threshes 151 = .ok (.invokevirtual 100, 3) := dk_182 0 100 (dk_at dksX8_threshes_6 13 rfl rfl)
theorem dX8_threshes_154 : decode cX8_threshes 154 = .ok (.ireturn, 1) := dk_172 (dk_at dksX8_threshes_6 16 rfl rfl)
theorem dX8_threshes_155 : decode cX8_threshes 155 = .ok (.aload_n 0, 1) := dk_42 (dk_at dksX8_threshes_6 17 rfl rfl)
theorem dX8_threshes_156 : decode cX8_threshes 156 = .ok (.iload_n 2, 1) := dk_28 (dk_at dksX8_threshes_6 18 rfl rfl)
theorem dX8_threshes_157 : decode cX8_threshes 157 = .ok (.iload_n 3, 1) := dk_29 (dk_at dksX8_threshes_6 19 rfl rfl)
theorem dX8_threshes_158 : decode cX8_threshes 158 = .ok (.invokevirtual 168, 3) := dk_182 0 168 (dk_at dksX8_threshes_6 20 rfl rfl)
theorem dX8_threshes_161 : decode cX8_threshes 161 = .ok (.aload_n 0, 1) := dk_42 (dk_at dksX8_threshes_6 23 rfl rfl)
theorem dX8_threshes_162 : decode cX8_threshes 162 = .ok (.getfield 9, 3) := dk_180 0 9 (dk_at dksX8_threshes_7 0 rfl rfl)
theorem dX8_threshes_165 : decode cX8_threshes 165 = .ok (.sipush 383, 3) := dk_17 1 127 (dk_at dksX8_threshes_7 3 rfl rfl)
theorem dX8_threshes_168 : decode cX8_threshes 168 = .ok (.iconst 4, 1) := dk_7 (dk_at dksX8_threshes_7 6 rfl rfl)
theorem dX8_threshes_169 : decode cX8_threshes 169 = .ok (.iload_n 1, 1) := dk_27 (dk_at dksX8_threshes_7 7 rfl rfl)
theorem dX8_threshes_170 : decode cX8_threshes 170 = .ok (.imul, 1) := dk_104 (dk_at dksX8_threshes_7 8 rfl rfl)
theorem dX8_threshes_171 : decode cX8_threshes 171 = .ok (.iadd, 1) := dk_96 (dk_at dksX8_threshes_7 9 rfl rfl)
theorem dX8_threshes_172 : decode cX8_threshes 172 = .ok (.dup2, 1) := dk_92 (dk_at dksX8_threshes_7 10 rfl rfl)
theorem dX8_threshes_173 : decode cX8_threshes 173 = .ok (.iaload, 1) := dk_46 (dk_at dksX8_threshes_7 11 rfl rfl)
theorem dX8_threshes_174 : decode cX8_threshes 174 = .ok (.iload_n 3, 1) := dk_29 (dk_at dksX8_threshes_7 12 rfl rfl)
theorem dX8_threshes_175 : decode cX8_threshes 175 = .ok (.iadd, 1) := dk_96 (dk_at dksX8_threshes_7 13 rfl rfl)
theorem dX8_threshes_176 : decode cX8_threshes 176 = .ok (.iastore, 1) := dk_79 (dk_at dksX8_threshes_7 14 rfl rfl)
theorem dX8_threshes_177 : decode cX8_threshes 177 = .ok (.aload_n 0, 1) := dk_42 (dk_at dksX8_threshes_7 15 rfl rfl)
theorem dX8_threshes_178 : decode cX8_threshes 178 = .ok (.getfield 9, 3) := dk_180 0 9 (dk_at dksX8_threshes_7 16 rfl rfl)
theorem dX8_threshes_181 : decode cX8_threshes 181 = .ok (.sipush 383, 3) := dk_17 1 127 (dk_at dksX8_threshes_7 19 rfl rfl)
theorem dX8_threshes_184 : decode cX8_threshes 184 = .ok (.iconst 4, 1) := dk_7 (dk_at dksX8_threshes_7 22 rfl rfl)
theorem dX8_threshes_185 : decode cX8_threshes 185 = .ok (.iload_n 1, 1) := dk_27 (dk_at dksX8_threshes_7 23 rfl rfl)
theorem dX8_threshes_186 : decode cX8_threshes 186 = .ok (.imul, 1) := dk_104 (dk_at dksX8_threshes_8 0 rfl rfl)
theorem dX8_threshes_187 : decode cX8_threshes 187 = .ok (.iadd, 1) := dk_96 (dk_at dksX8_threshes_8 1 rfl rfl)
theorem dX8_threshes_188 : decode cX8_threshes 188 = .ok (.iconst 1, 1) := dk_4 (dk_at dksX8_threshes_8 2 rfl rfl)
theorem dX8_threshes_189 : decode cX8_threshes 189 = .ok (.iadd, 1) := dk_96 (dk_at dksX8_threshes_8 3 rfl rfl)
theorem dX8_threshes_190 : decode cX8_threshes 190 = .ok (.iload 5, 2) := dk_21 5 (dk_at dksX8_threshes_8 4 rfl rfl)
theorem dX8_threshes_192 : decode cX8_threshes 192 = .ok (.iastore, 1) := dk_79 (dk_at dksX8_threshes_8 6 rfl rfl)
theorem dX8_threshes_193 : decode cX8_threshes 193 = .ok (.aload_n 0, 1) := dk_42 (dk_at dksX8_threshes_8 7 rfl rfl)
theorem dX8_threshes_194 : decode cX8_threshes 194 = .ok (.iload_n 1, 1) := dk_27 (dk_at dksX8_threshes_8 8 rfl rfl)
theorem dX8_threshes_195 : decode cX8_threshes 195 = .ok (.iconst 0, 1) := dk_3 (dk_at dksX8_threshes_8 9 rfl rfl)
theorem dX8_threshes_196 : decode cX8_threshes 196 = .ok (.invokevirtual 165, 3) := dk_182 0 165 (dk_at dksX8_threshes_8 10 rfl rfl)
theorem dX8_threshes_199 : decode cX8_threshes 199 = .ok (.ireturn, 1) := dk_172 (dk_at dksX8_threshes_8 13 rfl rfl)
def dkwX8_isFloor_0 : List UInt8 := [26, 3, 4, 184, 0, 56, 172]
abbrev dktX8_isFloor_0 : List UInt8 := dkwX8_isFloor_0 ++ []
theorem dksX8_isFloor_0 : cX8_isFloor.data.toList.drop 0 = dktX8_isFloor_0 := by decide +kernel
theorem dX8_isFloor_0 : decode cX8_isFloor 0 = .ok (.iload_n 0, 1) := dk_26 (dk_at dksX8_isFloor_0 0 rfl rfl)
theorem dX8_isFloor_1 : decode cX8_isFloor 1 = .ok (.iconst 0, 1) := dk_3 (dk_at dksX8_isFloor_0 1 rfl rfl)
theorem dX8_isFloor_2 : decode cX8_isFloor 2 = .ok (.iconst 1, 1) := dk_4 (dk_at dksX8_isFloor_0 2 rfl rfl)
theorem dX8_isFloor_3 : decode cX8_isFloor 3 = .ok (.invokestatic 56, 3) := dk_184 0 56 (dk_at dksX8_isFloor_0 3 rfl rfl)
theorem dX8_isFloor_6 : decode cX8_isFloor 6 = .ok (.ireturn, 1) := dk_172 (dk_at dksX8_isFloor_0 6 rfl rfl)
def dkwX8_unlike_2 : List UInt8 := [21, 5, 100, 182, 0, 141, 167, 0, 4, 2, 54, 4, 132, 5, 1, 167, 255, 208, 21, 4, 172]
abbrev dktX8_unlike_2 : List UInt8 := dkwX8_unlike_2 ++ []
def dkwX8_unlike_1 : List UInt8 := [160, 0, 42, 42, 27, 29, 21, 5, 100, 182, 0, 141, 42, 27, 29, 182, 0, 141, 159, 0, 15, 42, 27, 29]
abbrev dktX8_unlike_1 : List UInt8 := dkwX8_unlike_1 ++ dktX8_unlike_2
def dkwX8_unlike_0 : List UInt8 := [42, 27, 182, 0, 128, 4, 100, 62, 2, 54, 4, 3, 54, 5, 21, 5, 28, 162, 0, 48, 21, 4, 2]
abbrev dktX8_unlike_0 : List UInt8 := dkwX8_unlike_0 ++ dktX8_unlike_1
theorem dksX8_unlike_0 : cX8_unlike.data.toList.drop 0 = dktX8_unlike_0 := by decide +kernel
theorem dksX8_unlike_1 : cX8_unlike.data.toList.drop 23 = dktX8_unlike_1 := dk_seg dksX8_unlike_0 23 rfl rfl
theorem dksX8_unlike_2 : cX8_unlike.data.toList.drop 47 = dktX8_unlike_2 := dk_seg dksX8_unlike_1 24 rfl rfl
theorem dX8_unlike_0 : decode cX8_unlike 0 = .ok (.aload_n 0, 1) := dk_42 (dk_at dksX8_unlike_0 0 rfl rfl)
theorem dX8_unlike_1 : decode cX8_unlike 1 = .ok (.iload_n 1, 1) := dk_27 (dk_at dksX8_unlike_0 1 rfl rfl)
theorem dX8_unlike_2 : decode cX8_unlike 2 = .ok (.invokevirtual 128, 3) := dk_182 0 128 (dk_at dksX8_unlike_0 2 rfl rfl)
theorem dX8_unlike_5 : decode cX8_unlike 5 = .ok (.iconst 1, 1) := dk_4 (dk_at dksX8_unlike_0 5 rfl rfl)
theorem dX8_unlike_6 : decode cX8_unlike 6 = .ok (.isub, 1) := dk_100 (dk_at dksX8_unlike_0 6 rfl rfl)
theorem dX8_unlike_7 : decode cX8_unlike 7 = .ok (.istore_n 3, 1) := dk_62 (dk_at dksX8_unlike_0 7 rfl rfl)
theorem dX8_unlike_8 : decode cX8_unlike 8 = .ok (.iconst (-1), 1) := dk_2 (dk_at dksX8_unlike_0 8 rfl rfl)
theorem dX8_unlike_9 : decode cX8_unlike 9 = .ok (.istore 4, 2) := dk_54 4 (dk_at dksX8_unlike_0 9 rfl rfl)
theorem dX8_unlike_11 : decode cX8_unlike 11 = .ok (.iconst 0, 1) := dk_3 (dk_at dksX8_unlike_0 11 rfl rfl)
theorem dX8_unlike_12 : decode cX8_unlike 12 = .ok (.istore 5, 2) := dk_54 5 (dk_at dksX8_unlike_0 12 rfl rfl)
theorem dX8_unlike_14 : decode cX8_unlike 14 = .ok (.iload 5, 2) := dk_21 5 (dk_at dksX8_unlike_0 14 rfl rfl)
theorem dX8_unlike_16 : decode cX8_unlike 16 = .ok (.iload_n 2, 1) := dk_28 (dk_at dksX8_unlike_0 16 rfl rfl)
theorem dX8_unlike_17 : decode cX8_unlike 17 = .ok (.if_icmp .ge 48, 3) := dk_162 0 48 (dk_at dksX8_unlike_0 17 rfl rfl)
theorem dX8_unlike_20 : decode cX8_unlike 20 = .ok (.iload 4, 2) := dk_21 4 (dk_at dksX8_unlike_0 20 rfl rfl)
theorem dX8_unlike_22 : decode cX8_unlike 22 = .ok (.iconst (-1), 1) := dk_2 (dk_at dksX8_unlike_0 22 rfl rfl)
theorem dX8_unlike_23 : decode cX8_unlike 23 = .ok (.if_icmp .ne 42, 3) := dk_160 0 42 (dk_at dksX8_unlike_1 0 rfl rfl)
theorem dX8_unlike_26 : decode cX8_unlike 26 = .ok (.aload_n 0, 1) := dk_42 (dk_at dksX8_unlike_1 3 rfl rfl)
theorem dX8_unlike_27 : decode cX8_unlike 27 = .ok (.iload_n 1, 1) := dk_27 (dk_at dksX8_unlike_1 4 rfl rfl)
theorem dX8_unlike_28 : decode cX8_unlike 28 = .ok (.iload_n 3, 1) := dk_29 (dk_at dksX8_unlike_1 5 rfl rfl)
theorem dX8_unlike_29 : decode cX8_unlike 29 = .ok (.iload 5, 2) := dk_21 5 (dk_at dksX8_unlike_1 6 rfl rfl)
theorem dX8_unlike_31 : decode cX8_unlike 31 = .ok (.isub, 1) := dk_100 (dk_at dksX8_unlike_1 8 rfl rfl)
theorem dX8_unlike_32 : decode cX8_unlike 32 = .ok (.invokevirtual 141, 3) := dk_182 0 141 (dk_at dksX8_unlike_1 9 rfl rfl)
theorem dX8_unlike_35 : decode cX8_unlike 35 = .ok (.aload_n 0, 1) := dk_42 (dk_at dksX8_unlike_1 12 rfl rfl)
theorem dX8_unlike_36 : decode cX8_unlike 36 = .ok (.iload_n 1, 1) := dk_27 (dk_at dksX8_unlike_1 13 rfl rfl)
theorem dX8_unlike_37 : decode cX8_unlike 37 = .ok (.iload_n 3, 1) := dk_29 (dk_at dksX8_unlike_1 14 rfl rfl)
theorem dX8_unlike_38 : decode cX8_unlike 38 = .ok (.invokevirtual 141, 3) := dk_182 0 141 (dk_at dksX8_unlike_1 15 rfl rfl)
theorem dX8_unlike_41 : decode cX8_unlike 41 = .ok (.if_icmp .eq 15, 3) := dk_159 0 15 (dk_at dksX8_unlike_1 18 rfl rfl)
theorem dX8_unlike_44 : decode cX8_unlike 44 = .ok (.aload_n 0, 1) := dk_42 (dk_at dksX8_unlike_1 21 rfl rfl)
theorem dX8_unlike_45 : decode cX8_unlike 45 = .ok (.iload_n 1, 1) := dk_27 (dk_at dksX8_unlike_1 22 rfl rfl)
theorem dX8_unlike_46 : decode cX8_unlike 46 = .ok (.iload_n 3, 1) := dk_29 (dk_at dksX8_unlike_1 23 rfl rfl)
theorem dX8_unlike_47 : decode cX8_unlike 47 = .ok (.iload 5, 2) := dk_21 5 (dk_at dksX8_unlike_2 0 rfl rfl)
theorem dX8_unlike_49 : decode cX8_unlike 49 = .ok (.isub, 1) := dk_100 (dk_at dksX8_unlike_2 2 rfl rfl)
theorem dX8_unlike_50 : decode cX8_unlike 50 = .ok (.invokevirtual 141, 3) := dk_182 0 141 (dk_at dksX8_unlike_2 3 rfl rfl)
theorem dX8_unlike_53 : decode cX8_unlike 53 = .ok (.goto 4, 3) := dk_167 0 4 (dk_at dksX8_unlike_2 6 rfl rfl)
theorem dX8_unlike_56 : decode cX8_unlike 56 = .ok (.iconst (-1), 1) := dk_2 (dk_at dksX8_unlike_2 9 rfl rfl)
theorem dX8_unlike_57 : decode cX8_unlike 57 = .ok (.istore 4, 2) := dk_54 4 (dk_at dksX8_unlike_2 10 rfl rfl)
theorem dX8_unlike_59 : decode cX8_unlike 59 = .ok (.iinc 5 1, 3) := dk_132 5 1 (dk_at dksX8_unlike_2 12 rfl rfl)
theorem dX8_unlike_62 : decode cX8_unlike 62 = .ok (.goto (-48), 3) := dk_167 255 208 (dk_at dksX8_unlike_2 15 rfl rfl)
theorem dX8_unlike_65 : decode cX8_unlike 65 = .ok (.iload 4, 2) := dk_21 4 (dk_at dksX8_unlike_2 18 rfl rfl)
theorem dX8_unlike_67 : decode cX8_unlike 67 = .ok (.ireturn, 1) := dk_172 (dk_at dksX8_unlike_2 20 rfl rfl)
def dkwX8_floor_0 : List UInt8 := [42, 180, 0, 9, 17, 1, 127, 7, 27, 104, 96, 28, 96, 46, 172]
abbrev dktX8_floor_0 : List UInt8 := dkwX8_floor_0 ++ []
theorem dksX8_floor_0 : cX8_floor.data.toList.drop 0 = dktX8_floor_0 := by decide +kernel
theorem dX8_floor_0 : decode cX8_floor 0 = .ok (.aload_n 0, 1) := dk_42 (dk_at dksX8_floor_0 0 rfl rfl)
theorem dX8_floor_1 : decode cX8_floor 1 = .ok (.getfield 9, 3) := dk_180 0 9 (dk_at dksX8_floor_0 1 rfl rfl)
theorem dX8_floor_4 : decode cX8_floor 4 = .ok (.sipush 383, 3) := dk_17 1 127 (dk_at dksX8_floor_0 4 rfl rfl)
theorem dX8_floor_7 : decode cX8_floor 7 = .ok (.iconst 4, 1) := dk_7 (dk_at dksX8_floor_0 7 rfl rfl)
theorem dX8_floor_8 : decode cX8_floor 8 = .ok (.iload_n 1, 1) := dk_27 (dk_at dksX8_floor_0 8 rfl rfl)
theorem dX8_floor_9 : decode cX8_floor 9 = .ok (.imul, 1) := dk_104 (dk_at dksX8_floor_0 9 rfl rfl)
theorem dX8_floor_10 : decode cX8_floor 10 = .ok (.iadd, 1) := dk_96 (dk_at dksX8_floor_0 10 rfl rfl)
theorem dX8_floor_11 : decode cX8_floor 11 = .ok (.iload_n 2, 1) := dk_28 (dk_at dksX8_floor_0 11 rfl rfl)
theorem dX8_floor_12 : decode cX8_floor 12 = .ok (.iadd, 1) := dk_96 (dk_at dksX8_floor_0 12 rfl rfl)
theorem dX8_floor_13 : decode cX8_floor 13 = .ok (.iaload, 1) := dk_46 (dk_at dksX8_floor_0 13 rfl rfl)
theorem dX8_floor_14 : decode cX8_floor 14 = .ok (.ireturn, 1) := dk_172 (dk_at dksX8_floor_0 14 rfl rfl)
def dkwX8_takes_2 : List UInt8 := [132, 3, 1, 167, 255, 209, 177]
abbrev dktX8_takes_2 : List UInt8 := dkwX8_takes_2 ++ []
def dkwX8_takes_1 : List UInt8 := [42, 180, 0, 9, 17, 0, 139, 16, 61, 27, 104, 96, 4, 96, 42, 27, 182, 0, 128, 96, 3, 79]
abbrev dktX8_takes_1 : List UInt8 := dkwX8_takes_1 ++ dktX8_takes_2
def dkwX8_takes_0 : List UInt8 := [3, 62, 29, 28, 162, 0, 48, 42, 180, 0, 9, 17, 0, 139, 16, 61, 27, 104, 96, 92, 46, 4, 100, 79]
abbrev dktX8_takes_0 : List UInt8 := dkwX8_takes_0 ++ dktX8_takes_1
theorem dksX8_takes_0 : cX8_takes.data.toList.drop 0 = dktX8_takes_0 := by decide +kernel
theorem dksX8_takes_1 : cX8_takes.data.toList.drop 24 = dktX8_takes_1 := dk_seg dksX8_takes_0 24 rfl rfl
theorem dksX8_takes_2 : cX8_takes.data.toList.drop 46 = dktX8_takes_2 := dk_seg dksX8_takes_1 22 rfl rfl
theorem dX8_takes_0 : decode cX8_takes 0 = .ok (.iconst 0, 1) := dk_3 (dk_at dksX8_takes_0 0 rfl rfl)
theorem dX8_takes_1 : decode cX8_takes 1 = .ok (.istore_n 3, 1) := dk_62 (dk_at dksX8_takes_0 1 rfl rfl)
theorem dX8_takes_2 : decode cX8_takes 2 = .ok (.iload_n 3, 1) := dk_29 (dk_at dksX8_takes_0 2 rfl rfl)
theorem dX8_takes_3 : decode cX8_takes 3 = .ok (.iload_n 2, 1) := dk_28 (dk_at dksX8_takes_0 3 rfl rfl)
theorem dX8_takes_4 : decode cX8_takes 4 = .ok (.if_icmp .ge 48, 3) := dk_162 0 48 (dk_at dksX8_takes_0 4 rfl rfl)
theorem dX8_takes_7 : decode cX8_takes 7 = .ok (.aload_n 0, 1) := dk_42 (dk_at dksX8_takes_0 7 rfl rfl)
theorem dX8_takes_8 : decode cX8_takes 8 = .ok (.getfield 9, 3) := dk_180 0 9 (dk_at dksX8_takes_0 8 rfl rfl)
theorem dX8_takes_11 : decode cX8_takes 11 = .ok (.sipush 139, 3) := dk_17 0 139 (dk_at dksX8_takes_0 11 rfl rfl)
theorem dX8_takes_14 : decode cX8_takes 14 = .ok (.bipush 61, 2) := dk_16 61 (dk_at dksX8_takes_0 14 rfl rfl)
theorem dX8_takes_16 : decode cX8_takes 16 = .ok (.iload_n 1, 1) := dk_27 (dk_at dksX8_takes_0 16 rfl rfl)
theorem dX8_takes_17 : decode cX8_takes 17 = .ok (.imul, 1) := dk_104 (dk_at dksX8_takes_0 17 rfl rfl)
theorem dX8_takes_18 : decode cX8_takes 18 = .ok (.iadd, 1) := dk_96 (dk_at dksX8_takes_0 18 rfl rfl)
theorem dX8_takes_19 : decode cX8_takes 19 = .ok (.dup2, 1) := dk_92 (dk_at dksX8_takes_0 19 rfl rfl)
theorem dX8_takes_20 : decode cX8_takes 20 = .ok (.iaload, 1) := dk_46 (dk_at dksX8_takes_0 20 rfl rfl)
theorem dX8_takes_21 : decode cX8_takes 21 = .ok (.iconst 1, 1) := dk_4 (dk_at dksX8_takes_0 21 rfl rfl)
theorem dX8_takes_22 : decode cX8_takes 22 = .ok (.isub, 1) := dk_100 (dk_at dksX8_takes_0 22 rfl rfl)
theorem dX8_takes_23 : decode cX8_takes 23 = .ok (.iastore, 1) := dk_79 (dk_at dksX8_takes_0 23 rfl rfl)
theorem dX8_takes_24 : decode cX8_takes 24 = .ok (.aload_n 0, 1) := dk_42 (dk_at dksX8_takes_1 0 rfl rfl)
theorem dX8_takes_25 : decode cX8_takes 25 = .ok (.getfield 9, 3) := dk_180 0 9 (dk_at dksX8_takes_1 1 rfl rfl)
theorem dX8_takes_28 : decode cX8_takes 28 = .ok (.sipush 139, 3) := dk_17 0 139 (dk_at dksX8_takes_1 4 rfl rfl)
theorem dX8_takes_31 : decode cX8_takes 31 = .ok (.bipush 61, 2) := dk_16 61 (dk_at dksX8_takes_1 7 rfl rfl)
theorem dX8_takes_33 : decode cX8_takes 33 = .ok (.iload_n 1, 1) := dk_27 (dk_at dksX8_takes_1 9 rfl rfl)
theorem dX8_takes_34 : decode cX8_takes 34 = .ok (.imul, 1) := dk_104 (dk_at dksX8_takes_1 10 rfl rfl)
theorem dX8_takes_35 : decode cX8_takes 35 = .ok (.iadd, 1) := dk_96 (dk_at dksX8_takes_1 11 rfl rfl)
theorem dX8_takes_36 : decode cX8_takes 36 = .ok (.iconst 1, 1) := dk_4 (dk_at dksX8_takes_1 12 rfl rfl)
theorem dX8_takes_37 : decode cX8_takes 37 = .ok (.iadd, 1) := dk_96 (dk_at dksX8_takes_1 13 rfl rfl)
theorem dX8_takes_38 : decode cX8_takes 38 = .ok (.aload_n 0, 1) := dk_42 (dk_at dksX8_takes_1 14 rfl rfl)
theorem dX8_takes_39 : decode cX8_takes 39 = .ok (.iload_n 1, 1) := dk_27 (dk_at dksX8_takes_1 15 rfl rfl)
theorem dX8_takes_40 : decode cX8_takes 40 = .ok (.invokevirtual 128, 3) := dk_182 0 128 (dk_at dksX8_takes_1 16 rfl rfl)
theorem dX8_takes_43 : decode cX8_takes 43 = .ok (.iadd, 1) := dk_96 (dk_at dksX8_takes_1 19 rfl rfl)
theorem dX8_takes_44 : decode cX8_takes 44 = .ok (.iconst 0, 1) := dk_3 (dk_at dksX8_takes_1 20 rfl rfl)
theorem dX8_takes_45 : decode cX8_takes 45 = .ok (.iastore, 1) := dk_79 (dk_at dksX8_takes_1 21 rfl rfl)
theorem dX8_takes_46 : decode cX8_takes 46 = .ok (.iinc 3 1, 3) := dk_132 3 1 (dk_at dksX8_takes_2 0 rfl rfl)
theorem dX8_takes_49 : decode cX8_takes 49 = .ok (.goto (-47), 3) := dk_167 255 209 (dk_at dksX8_takes_2 3 rfl rfl)
theorem dX8_takes_52 : decode cX8_takes 52 = .ok (.return_, 1) := dk_177 (dk_at dksX8_takes_2 6 rfl rfl)
def dkwX8_flails_1 : List UInt8 := [17, 1, 127, 7, 27, 104, 96, 5, 96, 28, 182, 0, 175, 167, 0, 5, 16, 254, 172]
abbrev dktX8_flails_1 : List UInt8 := dkwX8_flails_1 ++ []
def dkwX8_flails_0 : List UInt8 := [27, 184, 0, 159, 154, 0, 7, 2, 167, 0, 32, 28, 4, 16, 6, 184, 0, 56, 153, 0, 20, 42]
abbrev dktX8_flails_0 : List UInt8 := dkwX8_flails_0 ++ dktX8_flails_1
theorem dksX8_flails_0 : cX8_flails.data.toList.drop 0 = dktX8_flails_0 := by decide +kernel
theorem dksX8_flails_1 : cX8_flails.data.toList.drop 22 = dktX8_flails_1 := dk_seg dksX8_flails_0 22 rfl rfl
theorem dX8_flails_0 : decode cX8_flails 0 = .ok (.iload_n 1, 1) := dk_27 (dk_at dksX8_flails_0 0 rfl rfl)
theorem dX8_flails_1 : decode cX8_flails 1 = .ok (.invokestatic 159, 3) := dk_184 0 159 (dk_at dksX8_flails_0 1 rfl rfl)
theorem dX8_flails_4 : decode cX8_flails 4 = .ok (.ifCond .ne 7, 3) := dk_154 0 7 (dk_at dksX8_flails_0 4 rfl rfl)
theorem dX8_flails_7 : decode cX8_flails 7 = .ok (.iconst (-1), 1) := dk_2 (dk_at dksX8_flails_0 7 rfl rfl)
theorem dX8_flails_8 : decode cX8_flails 8 = .ok (.goto 32, 3) := dk_167 0 32 (dk_at dksX8_flails_0 8 rfl rfl)
theorem dX8_flails_11 : decode cX8_flails 11 = .ok (.iload_n 2, 1) := dk_28 (dk_at dksX8_flails_0 11 rfl rfl)
theorem dX8_flails_12 : decode cX8_flails 12 = .ok (.iconst 1, 1) := dk_4 (dk_at dksX8_flails_0 12 rfl rfl)
theorem dX8_flails_13 : decode cX8_flails 13 = .ok (.bipush 6, 2) := dk_16 6 (dk_at dksX8_flails_0 13 rfl rfl)
theorem dX8_flails_15 : decode cX8_flails 15 = .ok (.invokestatic 56, 3) := dk_184 0 56 (dk_at dksX8_flails_0 15 rfl rfl)
theorem dX8_flails_18 : decode cX8_flails 18 = .ok (.ifCond .eq 20, 3) := dk_153 0 20 (dk_at dksX8_flails_0 18 rfl rfl)
theorem dX8_flails_21 : decode cX8_flails 21 = .ok (.aload_n 0, 1) := dk_42 (dk_at dksX8_flails_0 21 rfl rfl)
theorem dX8_flails_22 : decode cX8_flails 22 = .ok (.sipush 383, 3) := dk_17 1 127 (dk_at dksX8_flails_1 0 rfl rfl)
theorem dX8_flails_25 : decode cX8_flails 25 = .ok (.iconst 4, 1) := dk_7 (dk_at dksX8_flails_1 3 rfl rfl)
theorem dX8_flails_26 : decode cX8_flails 26 = .ok (.iload_n 1, 1) := dk_27 (dk_at dksX8_flails_1 4 rfl rfl)
theorem dX8_flails_27 : decode cX8_flails 27 = .ok (.imul, 1) := dk_104 (dk_at dksX8_flails_1 5 rfl rfl)
theorem dX8_flails_28 : decode cX8_flails 28 = .ok (.iadd, 1) := dk_96 (dk_at dksX8_flails_1 6 rfl rfl)
theorem dX8_flails_29 : decode cX8_flails 29 = .ok (.iconst 2, 1) := dk_5 (dk_at dksX8_flails_1 7 rfl rfl)
theorem dX8_flails_30 : decode cX8_flails 30 = .ok (.iadd, 1) := dk_96 (dk_at dksX8_flails_1 8 rfl rfl)
theorem dX8_flails_31 : decode cX8_flails 31 = .ok (.iload_n 2, 1) := dk_28 (dk_at dksX8_flails_1 9 rfl rfl)
theorem dX8_flails_32 : decode cX8_flails 32 = .ok (.invokevirtual 175, 3) := dk_182 0 175 (dk_at dksX8_flails_1 10 rfl rfl)
theorem dX8_flails_35 : decode cX8_flails 35 = .ok (.goto 5, 3) := dk_167 0 5 (dk_at dksX8_flails_1 13 rfl rfl)
theorem dX8_flails_38 : decode cX8_flails 38 = .ok (.bipush (-2), 2) := dk_16 254 (dk_at dksX8_flails_1 16 rfl rfl)
theorem dX8_flails_40 : decode cX8_flails 40 = .ok (.ireturn, 1) := dk_172 (dk_at dksX8_flails_1 18 rfl rfl)
def dkwX8_becomes_0 : List UInt8 := [42, 182, 0, 97, 42, 180, 0, 9, 27, 46, 62, 42, 180, 0, 9, 27, 28, 79, 42, 29, 182, 0, 81, 172]
abbrev dktX8_becomes_0 : List UInt8 := dkwX8_becomes_0 ++ []
theorem dksX8_becomes_0 : cX8_becomes.data.toList.drop 0 = dktX8_becomes_0 := by decide +kernel
theorem dX8_becomes_0 : decode cX8_becomes 0 = .ok (.aload_n 0, 1) := dk_42 (dk_at dksX8_becomes_0 0 rfl rfl)
theorem dX8_becomes_1 : decode cX8_becomes 1 = .ok (.invokevirtual 97, 3) := dk_182 0 97 (dk_at dksX8_becomes_0 1 rfl rfl)
theorem dX8_becomes_4 : decode cX8_becomes 4 = .ok (.aload_n 0, 1) := dk_42 (dk_at dksX8_becomes_0 4 rfl rfl)
theorem dX8_becomes_5 : decode cX8_becomes 5 = .ok (.getfield 9, 3) := dk_180 0 9 (dk_at dksX8_becomes_0 5 rfl rfl)
theorem dX8_becomes_8 : decode cX8_becomes 8 = .ok (.iload_n 1, 1) := dk_27 (dk_at dksX8_becomes_0 8 rfl rfl)
theorem dX8_becomes_9 : decode cX8_becomes 9 = .ok (.iaload, 1) := dk_46 (dk_at dksX8_becomes_0 9 rfl rfl)
theorem dX8_becomes_10 : decode cX8_becomes 10 = .ok (.istore_n 3, 1) := dk_62 (dk_at dksX8_becomes_0 10 rfl rfl)
theorem dX8_becomes_11 : decode cX8_becomes 11 = .ok (.aload_n 0, 1) := dk_42 (dk_at dksX8_becomes_0 11 rfl rfl)
theorem dX8_becomes_12 : decode cX8_becomes 12 = .ok (.getfield 9, 3) := dk_180 0 9 (dk_at dksX8_becomes_0 12 rfl rfl)
theorem dX8_becomes_15 : decode cX8_becomes 15 = .ok (.iload_n 1, 1) := dk_27 (dk_at dksX8_becomes_0 15 rfl rfl)
theorem dX8_becomes_16 : decode cX8_becomes 16 = .ok (.iload_n 2, 1) := dk_28 (dk_at dksX8_becomes_0 16 rfl rfl)
theorem dX8_becomes_17 : decode cX8_becomes 17 = .ok (.iastore, 1) := dk_79 (dk_at dksX8_becomes_0 17 rfl rfl)
theorem dX8_becomes_18 : decode cX8_becomes 18 = .ok (.aload_n 0, 1) := dk_42 (dk_at dksX8_becomes_0 18 rfl rfl)
theorem dX8_becomes_19 : decode cX8_becomes 19 = .ok (.iload_n 3, 1) := dk_29 (dk_at dksX8_becomes_0 19 rfl rfl)
theorem dX8_becomes_20 : decode cX8_becomes 20 = .ok (.invokevirtual 81, 3) := dk_182 0 81 (dk_at dksX8_becomes_0 20 rfl rfl)
theorem dX8_becomes_23 : decode cX8_becomes 23 = .ok (.ireturn, 1) := dk_172 (dk_at dksX8_becomes_0 23 rfl rfl)
def dkwX8_price_1 : List UInt8 := [17, 1, 135, 8, 27, 104, 96, 4, 96, 28, 182, 0, 175, 167, 0, 5, 16, 254, 172]
abbrev dktX8_price_1 : List UInt8 := dkwX8_price_1 ++ []
def dkwX8_price_0 : List UInt8 := [27, 184, 0, 93, 154, 0, 7, 2, 167, 0, 32, 28, 4, 16, 50, 184, 0, 56, 153, 0, 20, 42]
abbrev dktX8_price_0 : List UInt8 := dkwX8_price_0 ++ dktX8_price_1
theorem dksX8_price_0 : cX8_price.data.toList.drop 0 = dktX8_price_0 := by decide +kernel
theorem dksX8_price_1 : cX8_price.data.toList.drop 22 = dktX8_price_1 := dk_seg dksX8_price_0 22 rfl rfl
theorem dX8_price_0 : decode cX8_price 0 = .ok (.iload_n 1, 1) := dk_27 (dk_at dksX8_price_0 0 rfl rfl)
theorem dX8_price_1 : decode cX8_price 1 = .ok (.invokestatic 93, 3) := dk_184 0 93 (dk_at dksX8_price_0 1 rfl rfl)
theorem dX8_price_4 : decode cX8_price 4 = .ok (.ifCond .ne 7, 3) := dk_154 0 7 (dk_at dksX8_price_0 4 rfl rfl)
theorem dX8_price_7 : decode cX8_price 7 = .ok (.iconst (-1), 1) := dk_2 (dk_at dksX8_price_0 7 rfl rfl)
theorem dX8_price_8 : decode cX8_price 8 = .ok (.goto 32, 3) := dk_167 0 32 (dk_at dksX8_price_0 8 rfl rfl)
theorem dX8_price_11 : decode cX8_price 11 = .ok (.iload_n 2, 1) := dk_28 (dk_at dksX8_price_0 11 rfl rfl)
theorem dX8_price_12 : decode cX8_price 12 = .ok (.iconst 1, 1) := dk_4 (dk_at dksX8_price_0 12 rfl rfl)
theorem dX8_price_13 : decode cX8_price 13 = .ok (.bipush 50, 2) := dk_16 50 (dk_at dksX8_price_0 13 rfl rfl)
theorem dX8_price_15 : decode cX8_price 15 = .ok (.invokestatic 56, 3) := dk_184 0 56 (dk_at dksX8_price_0 15 rfl rfl)
theorem dX8_price_18 : decode cX8_price 18 = .ok (.ifCond .eq 20, 3) := dk_153 0 20 (dk_at dksX8_price_0 18 rfl rfl)
theorem dX8_price_21 : decode cX8_price 21 = .ok (.aload_n 0, 1) := dk_42 (dk_at dksX8_price_0 21 rfl rfl)
theorem dX8_price_22 : decode cX8_price 22 = .ok (.sipush 391, 3) := dk_17 1 135 (dk_at dksX8_price_1 0 rfl rfl)
theorem dX8_price_25 : decode cX8_price 25 = .ok (.iconst 5, 1) := dk_8 (dk_at dksX8_price_1 3 rfl rfl)
theorem dX8_price_26 : decode cX8_price 26 = .ok (.iload_n 1, 1) := dk_27 (dk_at dksX8_price_1 4 rfl rfl)
theorem dX8_price_27 : decode cX8_price 27 = .ok (.imul, 1) := dk_104 (dk_at dksX8_price_1 5 rfl rfl)
theorem dX8_price_28 : decode cX8_price 28 = .ok (.iadd, 1) := dk_96 (dk_at dksX8_price_1 6 rfl rfl)
theorem dX8_price_29 : decode cX8_price 29 = .ok (.iconst 1, 1) := dk_4 (dk_at dksX8_price_1 7 rfl rfl)
theorem dX8_price_30 : decode cX8_price 30 = .ok (.iadd, 1) := dk_96 (dk_at dksX8_price_1 8 rfl rfl)
theorem dX8_price_31 : decode cX8_price 31 = .ok (.iload_n 2, 1) := dk_28 (dk_at dksX8_price_1 9 rfl rfl)
theorem dX8_price_32 : decode cX8_price 32 = .ok (.invokevirtual 175, 3) := dk_182 0 175 (dk_at dksX8_price_1 10 rfl rfl)
theorem dX8_price_35 : decode cX8_price 35 = .ok (.goto 5, 3) := dk_167 0 5 (dk_at dksX8_price_1 13 rfl rfl)
theorem dX8_price_38 : decode cX8_price 38 = .ok (.bipush (-2), 2) := dk_16 254 (dk_at dksX8_price_1 16 rfl rfl)
theorem dX8_price_40 : decode cX8_price 40 = .ok (.ireturn, 1) := dk_172 (dk_at dksX8_price_1 18 rfl rfl)
def dkwX8_floorOf_1 : List UInt8 := [160, 0, 17, 42, 27, 3, 182, 0, 165, 154, 0, 8, 16, 252, 167, 0, 9, 42, 27, 28, 182, 0, 165, 172]
abbrev dktX8_floorOf_1 : List UInt8 := dkwX8_floorOf_1 ++ []
def dkwX8_floorOf_0 : List UInt8 := [27, 184, 0, 159, 154, 0, 5, 2, 172, 28, 3, 6, 184, 0, 56, 154, 0, 6, 16, 254, 172, 28, 4]
abbrev dktX8_floorOf_0 : List UInt8 := dkwX8_floorOf_0 ++ dktX8_floorOf_1
theorem dksX8_floorOf_0 : cX8_floorOf.data.toList.drop 0 = dktX8_floorOf_0 := by decide +kernel
theorem dksX8_floorOf_1 : cX8_floorOf.data.toList.drop 23 = dktX8_floorOf_1 := dk_seg dksX8_floorOf_0 23 rfl rfl
theorem dX8_floorOf_0 : decode cX8_floorOf 0 = .ok (.iload_n 1, 1) := dk_27 (dk_at dksX8_floorOf_0 0 rfl rfl)
theorem dX8_floorOf_1 : decode cX8_floorOf 1 = .ok (.invokestatic 159, 3) := dk_184 0 159 (dk_at dksX8_floorOf_0 1 rfl rfl)
theorem dX8_floorOf_4 : decode cX8_floorOf 4 = .ok (.ifCond .ne 5, 3) := dk_154 0 5 (dk_at dksX8_floorOf_0 4 rfl rfl)
theorem dX8_floorOf_7 : decode cX8_floorOf 7 = .ok (.iconst (-1), 1) := dk_2 (dk_at dksX8_floorOf_0 7 rfl rfl)
theorem dX8_floorOf_8 : decode cX8_floorOf 8 = .ok (.ireturn, 1) := dk_172 (dk_at dksX8_floorOf_0 8 rfl rfl)
theorem dX8_floorOf_9 : decode cX8_floorOf 9 = .ok (.iload_n 2, 1) := dk_28 (dk_at dksX8_floorOf_0 9 rfl rfl)
theorem dX8_floorOf_10 : decode cX8_floorOf 10 = .ok (.iconst 0, 1) := dk_3 (dk_at dksX8_floorOf_0 10 rfl rfl)
theorem dX8_floorOf_11 : decode cX8_floorOf 11 = .ok (.iconst 3, 1) := dk_6 (dk_at dksX8_floorOf_0 11 rfl rfl)
theorem dX8_floorOf_12 : decode cX8_floorOf 12 = .ok (.invokestatic 56, 3) := dk_184 0 56 (dk_at dksX8_floorOf_0 12 rfl rfl)
theorem dX8_floorOf_15 : decode cX8_floorOf 15 = .ok (.ifCond .ne 6, 3) := dk_154 0 6 (dk_at dksX8_floorOf_0 15 rfl rfl)
theorem dX8_floorOf_18 : decode cX8_floorOf 18 = .ok (.bipush (-2), 2) := dk_16 254 (dk_at dksX8_floorOf_0 18 rfl rfl)
theorem dX8_floorOf_20 : decode cX8_floorOf 20 = .ok (.ireturn, 1) := dk_172 (dk_at dksX8_floorOf_0 20 rfl rfl)
theorem dX8_floorOf_21 : decode cX8_floorOf 21 = .ok (.iload_n 2, 1) := dk_28 (dk_at dksX8_floorOf_0 21 rfl rfl)
theorem dX8_floorOf_22 : decode cX8_floorOf 22 = .ok (.iconst 1, 1) := dk_4 (dk_at dksX8_floorOf_0 22 rfl rfl)
theorem dX8_floorOf_23 : decode cX8_floorOf 23 = .ok (.if_icmp .ne 17, 3) := dk_160 0 17 (dk_at dksX8_floorOf_1 0 rfl rfl)
theorem dX8_floorOf_26 : decode cX8_floorOf 26 = .ok (.aload_n 0, 1) := dk_42 (dk_at dksX8_floorOf_1 3 rfl rfl)
theorem dX8_floorOf_27 : decode cX8_floorOf 27 = .ok (.iload_n 1, 1) := dk_27 (dk_at dksX8_floorOf_1 4 rfl rfl)
theorem dX8_floorOf_28 : decode cX8_floorOf 28 = .ok (.iconst 0, 1) := dk_3 (dk_at dksX8_floorOf_1 5 rfl rfl)
theorem dX8_floorOf_29 : decode cX8_floorOf 29 = .ok (.invokevirtual 165, 3) := dk_182 0 165 (dk_at dksX8_floorOf_1 6 rfl rfl)
theorem dX8_floorOf_32 : decode cX8_floorOf 32 = .ok (.ifCond .ne 8, 3) := dk_154 0 8 (dk_at dksX8_floorOf_1 9 rfl rfl)
theorem dX8_floorOf_35 : decode cX8_floorOf 35 = .ok (.bipush (-4), 2) := dk_16 252 (dk_at dksX8_floorOf_1 12 rfl rfl)
theorem dX8_floorOf_37 : decode cX8_floorOf 37 = .ok (.goto 9, 3) := dk_167 0 9 (dk_at dksX8_floorOf_1 14 rfl rfl)
theorem dX8_floorOf_40 : decode cX8_floorOf 40 = .ok (.aload_n 0, 1) := dk_42 (dk_at dksX8_floorOf_1 17 rfl rfl)
theorem dX8_floorOf_41 : decode cX8_floorOf 41 = .ok (.iload_n 1, 1) := dk_27 (dk_at dksX8_floorOf_1 18 rfl rfl)
theorem dX8_floorOf_42 : decode cX8_floorOf 42 = .ok (.iload_n 2, 1) := dk_28 (dk_at dksX8_floorOf_1 19 rfl rfl)
theorem dX8_floorOf_43 : decode cX8_floorOf 43 = .ok (.invokevirtual 165, 3) := dk_182 0 165 (dk_at dksX8_floorOf_1 20 rfl rfl)
theorem dX8_floorOf_46 : decode cX8_floorOf 46 = .ok (.ireturn, 1) := dk_172 (dk_at dksX8_floorOf_1 23 rfl rfl)
def dkwX8_binOf_1 : List UInt8 := [182, 0, 178, 167, 0, 5, 16, 254, 172]
abbrev dktX8_binOf_1 : List UInt8 := dkwX8_binOf_1 ++ []
def dkwX8_binOf_0 : List UInt8 := [27, 184, 0, 93, 154, 0, 7, 2, 167, 0, 23, 28, 3, 7, 184, 0, 56, 153, 0, 12, 42, 27, 28]
abbrev dktX8_binOf_0 : List UInt8 := dkwX8_binOf_0 ++ dktX8_binOf_1
theorem dksX8_binOf_0 : cX8_binOf.data.toList.drop 0 = dktX8_binOf_0 := by decide +kernel
theorem dksX8_binOf_1 : cX8_binOf.data.toList.drop 23 = dktX8_binOf_1 := dk_seg dksX8_binOf_0 23 rfl rfl
theorem dX8_binOf_0 : decode cX8_binOf 0 = .ok (.iload_n 1, 1) := dk_27 (dk_at dksX8_binOf_0 0 rfl rfl)
theorem dX8_binOf_1 : decode cX8_binOf 1 = .ok (.invokestatic 93, 3) := dk_184 0 93 (dk_at dksX8_binOf_0 1 rfl rfl)
theorem dX8_binOf_4 : decode cX8_binOf 4 = .ok (.ifCond .ne 7, 3) := dk_154 0 7 (dk_at dksX8_binOf_0 4 rfl rfl)
theorem dX8_binOf_7 : decode cX8_binOf 7 = .ok (.iconst (-1), 1) := dk_2 (dk_at dksX8_binOf_0 7 rfl rfl)
theorem dX8_binOf_8 : decode cX8_binOf 8 = .ok (.goto 23, 3) := dk_167 0 23 (dk_at dksX8_binOf_0 8 rfl rfl)
theorem dX8_binOf_11 : decode cX8_binOf 11 = .ok (.iload_n 2, 1) := dk_28 (dk_at dksX8_binOf_0 11 rfl rfl)
theorem dX8_binOf_12 : decode cX8_binOf 12 = .ok (.iconst 0, 1) := dk_3 (dk_at dksX8_binOf_0 12 rfl rfl)
theorem dX8_binOf_13 : decode cX8_binOf 13 = .ok (.iconst 4, 1) := dk_7 (dk_at dksX8_binOf_0 13 rfl rfl)
theorem dX8_binOf_14 : decode cX8_binOf 14 = .ok (.invokestatic 56, 3) := dk_184 0 56 (dk_at dksX8_binOf_0 14 rfl rfl)
theorem dX8_binOf_17 : decode cX8_binOf 17 = .ok (.ifCond .eq 12, 3) := dk_153 0 12 (dk_at dksX8_binOf_0 17 rfl rfl)
theorem dX8_binOf_20 : decode cX8_binOf 20 = .ok (.aload_n 0, 1) := dk_42 (dk_at dksX8_binOf_0 20 rfl rfl)
theorem dX8_binOf_21 : decode cX8_binOf 21 = .ok (.iload_n 1, 1) := dk_27 (dk_at dksX8_binOf_0 21 rfl rfl)
theorem dX8_binOf_22 : decode cX8_binOf 22 = .ok (.iload_n 2, 1) := dk_28 (dk_at dksX8_binOf_0 22 rfl rfl)
theorem dX8_binOf_23 : decode cX8_binOf 23 = .ok (.invokevirtual 178, 3) := dk_182 0 178 (dk_at dksX8_binOf_1 0 rfl rfl)
theorem dX8_binOf_26 : decode cX8_binOf 26 = .ok (.goto 5, 3) := dk_167 0 5 (dk_at dksX8_binOf_1 3 rfl rfl)
theorem dX8_binOf_29 : decode cX8_binOf 29 = .ok (.bipush (-2), 2) := dk_16 254 (dk_at dksX8_binOf_1 6 rfl rfl)
theorem dX8_binOf_31 : decode cX8_binOf 31 = .ok (.ireturn, 1) := dk_172 (dk_at dksX8_binOf_1 8 rfl rfl)
def dkwX8_store_0 : List UInt8 := [42, 180, 0, 9, 17, 1, 135, 8, 27, 104, 96, 28, 96, 46, 172]
abbrev dktX8_store_0 : List UInt8 := dkwX8_store_0 ++ []
theorem dksX8_store_0 : cX8_store.data.toList.drop 0 = dktX8_store_0 := by decide +kernel
theorem dX8_store_0 : decode cX8_store 0 = .ok (.aload_n 0, 1) := dk_42 (dk_at dksX8_store_0 0 rfl rfl)
theorem dX8_store_1 : decode cX8_store 1 = .ok (.getfield 9, 3) := dk_180 0 9 (dk_at dksX8_store_0 1 rfl rfl)
theorem dX8_store_4 : decode cX8_store 4 = .ok (.sipush 391, 3) := dk_17 1 135 (dk_at dksX8_store_0 4 rfl rfl)
theorem dX8_store_7 : decode cX8_store 7 = .ok (.iconst 5, 1) := dk_8 (dk_at dksX8_store_0 7 rfl rfl)
theorem dX8_store_8 : decode cX8_store 8 = .ok (.iload_n 1, 1) := dk_27 (dk_at dksX8_store_0 8 rfl rfl)
theorem dX8_store_9 : decode cX8_store 9 = .ok (.imul, 1) := dk_104 (dk_at dksX8_store_0 9 rfl rfl)
theorem dX8_store_10 : decode cX8_store 10 = .ok (.iadd, 1) := dk_96 (dk_at dksX8_store_0 10 rfl rfl)
theorem dX8_store_11 : decode cX8_store 11 = .ok (.iload_n 2, 1) := dk_28 (dk_at dksX8_store_0 11 rfl rfl)
theorem dX8_store_12 : decode cX8_store 12 = .ok (.iadd, 1) := dk_96 (dk_at dksX8_store_0 12 rfl rfl)
theorem dX8_store_13 : decode cX8_store 13 = .ok (.iaload, 1) := dk_46 (dk_at dksX8_store_0 13 rfl rfl)
theorem dX8_store_14 : decode cX8_store 14 = .ok (.ireturn, 1) := dk_172 (dk_at dksX8_store_0 14 rfl rfl)
def dkwX8_sell_0 : List UInt8 := [42, 182, 0, 97, 42, 42, 27, 28, 29, 182, 0, 184, 182, 0, 104, 172]
abbrev dktX8_sell_0 : List UInt8 := dkwX8_sell_0 ++ []
theorem dksX8_sell_0 : cX8_sell.data.toList.drop 0 = dktX8_sell_0 := by decide +kernel
theorem dX8_sell_0 : decode cX8_sell 0 = .ok (.aload_n 0, 1) := dk_42 (dk_at dksX8_sell_0 0 rfl rfl)
theorem dX8_sell_1 : decode cX8_sell 1 = .ok (.invokevirtual 97, 3) := dk_182 0 97 (dk_at dksX8_sell_0 1 rfl rfl)
theorem dX8_sell_4 : decode cX8_sell 4 = .ok (.aload_n 0, 1) := dk_42 (dk_at dksX8_sell_0 4 rfl rfl)
theorem dX8_sell_5 : decode cX8_sell 5 = .ok (.aload_n 0, 1) := dk_42 (dk_at dksX8_sell_0 5 rfl rfl)
theorem dX8_sell_6 : decode cX8_sell 6 = .ok (.iload_n 1, 1) := dk_27 (dk_at dksX8_sell_0 6 rfl rfl)
theorem dX8_sell_7 : decode cX8_sell 7 = .ok (.iload_n 2, 1) := dk_28 (dk_at dksX8_sell_0 7 rfl rfl)
theorem dX8_sell_8 : decode cX8_sell 8 = .ok (.iload_n 3, 1) := dk_29 (dk_at dksX8_sell_0 8 rfl rfl)
theorem dX8_sell_9 : decode cX8_sell 9 = .ok (.invokevirtual 184, 3) := dk_182 0 184 (dk_at dksX8_sell_0 9 rfl rfl)
theorem dX8_sell_12 : decode cX8_sell 12 = .ok (.invokevirtual 104, 3) := dk_182 0 104 (dk_at dksX8_sell_0 12 rfl rfl)
theorem dX8_sell_15 : decode cX8_sell 15 = .ok (.ireturn, 1) := dk_172 (dk_at dksX8_sell_0 15 rfl rfl)
def dkwX8_sells_8 : List UInt8 := [172]
abbrev dktX8_sells_8 : List UInt8 := dkwX8_sells_8 ++ []
def dkwX8_sells_7 : List UInt8 := [17, 1, 175, 92, 46, 21, 4, 96, 79, 42, 180, 0, 9, 17, 1, 173, 92, 46, 21, 6, 96, 79, 21, 6]
abbrev dktX8_sells_7 : List UInt8 := dkwX8_sells_7 ++ dktX8_sells_8
def dkwX8_sells_6 : List UInt8 := [42, 180, 0, 9, 17, 1, 135, 8, 27, 104, 96, 6, 96, 92, 46, 21, 4, 96, 79, 42, 180, 0, 9]
abbrev dktX8_sells_6 : List UInt8 := dkwX8_sells_6 ++ dktX8_sells_7
def dkwX8_sells_5 : List UInt8 := [92, 46, 21, 4, 100, 79, 42, 180, 0, 9, 17, 1, 135, 8, 27, 104, 96, 5, 96, 92, 46, 28, 96, 79]
abbrev dktX8_sells_5 : List UInt8 := dkwX8_sells_5 ++ dktX8_sells_6
def dkwX8_sells_4 : List UInt8 := [172, 28, 42, 27, 4, 182, 0, 178, 29, 96, 104, 54, 6, 42, 180, 0, 9, 17, 1, 135, 8, 27, 104, 96]
abbrev dktX8_sells_4 : List UInt8 := dkwX8_sells_4 ++ dktX8_sells_5
def dkwX8_sells_3 : List UInt8 := [16, 8, 42, 27, 3, 182, 0, 178, 21, 5, 158, 0, 8, 16, 13, 167, 0, 4, 3, 21, 5, 182, 0, 100]
abbrev dktX8_sells_3 : List UInt8 := dkwX8_sells_3 ++ dktX8_sells_4
def dkwX8_sells_2 : List UInt8 := [54, 4, 42, 7, 27, 96, 182, 0, 181, 54, 5, 42, 27, 3, 182, 0, 178, 21, 4, 162, 0, 29, 42]
abbrev dktX8_sells_2 : List UInt8 := dkwX8_sells_2 ++ dktX8_sells_3
def dkwX8_sells_1 : List UInt8 := [184, 0, 56, 154, 0, 6, 16, 254, 172, 28, 29, 4, 160, 0, 8, 16, 72, 167, 0, 5, 16, 64, 104]
abbrev dktX8_sells_1 : List UInt8 := dkwX8_sells_1 ++ dktX8_sells_2
def dkwX8_sells_0 : List UInt8 := [27, 184, 0, 93, 154, 0, 5, 2, 172, 28, 4, 16, 30, 184, 0, 56, 153, 0, 12, 29, 3, 4]
abbrev dktX8_sells_0 : List UInt8 := dkwX8_sells_0 ++ dktX8_sells_1
theorem dksX8_sells_0 : cX8_sells.data.toList.drop 0 = dktX8_sells_0 := by decide +kernel
theorem dksX8_sells_1 : cX8_sells.data.toList.drop 22 = dktX8_sells_1 := dk_seg dksX8_sells_0 22 rfl rfl
theorem dksX8_sells_2 : cX8_sells.data.toList.drop 45 = dktX8_sells_2 := dk_seg dksX8_sells_1 23 rfl rfl
theorem dksX8_sells_3 : cX8_sells.data.toList.drop 68 = dktX8_sells_3 := dk_seg dksX8_sells_2 23 rfl rfl
theorem dksX8_sells_4 : cX8_sells.data.toList.drop 92 = dktX8_sells_4 := dk_seg dksX8_sells_3 24 rfl rfl
theorem dksX8_sells_5 : cX8_sells.data.toList.drop 116 = dktX8_sells_5 := dk_seg dksX8_sells_4 24 rfl rfl
theorem dksX8_sells_6 : cX8_sells.data.toList.drop 140 = dktX8_sells_6 := dk_seg dksX8_sells_5 24 rfl rfl
theorem dksX8_sells_7 : cX8_sells.data.toList.drop 163 = dktX8_sells_7 := dk_seg dksX8_sells_6 23 rfl rfl
theorem dksX8_sells_8 : cX8_sells.data.toList.drop 187 = dktX8_sells_8 := dk_seg dksX8_sells_7 24 rfl rfl
theorem dX8_sells_0 : decode cX8_sells 0 = .ok (.iload_n 1, 1) := dk_27 (dk_at dksX8_sells_0 0 rfl rfl)
theorem dX8_sells_1 : decode cX8_sells 1 = .ok (.invokestatic 93, 3) := dk_184 0 93 (dk_at dksX8_sells_0 1 rfl rfl)
theorem dX8_sells_4 : decode cX8_sells 4 = .ok (.ifCond .ne 5, 3) := dk_154 0 5 (dk_at dksX8_sells_0 4 rfl rfl)
theorem dX8_sells_7 : decode cX8_sells 7 = .ok (.iconst (-1), 1) := dk_2 (dk_at dksX8_sells_0 7 rfl rfl)
theorem dX8_sells_8 : decode cX8_sells 8 = .ok (.ireturn, 1) := dk_172 (dk_at dksX8_sells_0 8 rfl rfl)
theorem dX8_sells_9 : decode cX8_sells 9 = .ok (.iload_n 2, 1) := dk_28 (dk_at dksX8_sells_0 9 rfl rfl)
theorem dX8_sells_10 : decode cX8_sells 10 = .ok (.iconst 1, 1) := dk_4 (dk_at dksX8_sells_0 10 rfl rfl)
theorem dX8_sells_11 : decode cX8_sells 11 = .ok (.bipush 30, 2) := dk_16 30 (dk_at dksX8_sells_0 11 rfl rfl)
theorem dX8_sells_13 : decode cX8_sells 13 = .ok (.invokestatic 56, 3) := dk_184 0 56 (dk_at dksX8_sells_0 13 rfl rfl)
theorem dX8_sells_16 : decode cX8_sells 16 = .ok (.ifCond .eq 12, 3) := dk_153 0 12 (dk_at dksX8_sells_0 16 rfl rfl)
theorem dX8_sells_19 : decode cX8_sells 19 = .ok (.iload_n 3, 1) := dk_29 (dk_at dksX8_sells_0 19 rfl rfl)
theorem dX8_sells_20 : decode cX8_sells 20 = .ok (.iconst 0, 1) := dk_3 (dk_at dksX8_sells_0 20 rfl rfl)
theorem dX8_sells_21 : decode cX8_sells 21 = .ok (.iconst 1, 1) := dk_4 (dk_at dksX8_sells_0 21 rfl rfl)
theorem dX8_sells_22 : decode cX8_sells 22 = .ok (.invokestatic 56, 3) := dk_184 0 56 (dk_at dksX8_sells_1 0 rfl rfl)
theorem dX8_sells_25 : decode cX8_sells 25 = .ok (.ifCond .ne 6, 3) := dk_154 0 6 (dk_at dksX8_sells_1 3 rfl rfl)
theorem dX8_sells_28 : decode cX8_sells 28 = .ok (.bipush (-2), 2) := dk_16 254 (dk_at dksX8_sells_1 6 rfl rfl)
theorem dX8_sells_30 : decode cX8_sells 30 = .ok (.ireturn, 1) := dk_172 (dk_at dksX8_sells_1 8 rfl rfl)
theorem dX8_sells_31 : decode cX8_sells 31 = .ok (.iload_n 2, 1) := dk_28 (dk_at dksX8_sells_1 9 rfl rfl)
theorem dX8_sells_32 : decode cX8_sells 32 = .ok (.iload_n 3, 1) := dk_29 (dk_at dksX8_sells_1 10 rfl rfl)
theorem dX8_sells_33 : decode cX8_sells 33 = .ok (.iconst 1, 1) := dk_4 (dk_at dksX8_sells_1 11 rfl rfl)
theorem dX8_sells_34 : decode cX8_sells 34 = .ok (.if_icmp .ne 8, 3) := dk_160 0 8 (dk_at dksX8_sells_1 12 rfl rfl)
theorem dX8_sells_37 : decode cX8_sells 37 = .ok (.bipush 72, 2) := dk_16 72 (dk_at dksX8_sells_1 15 rfl rfl)
theorem dX8_sells_39 : decode cX8_sells 39 = .ok (.goto 5, 3) := dk_167 0 5 (dk_at dksX8_sells_1 17 rfl rfl)
theorem dX8_sells_42 : decode cX8_sells 42 = .ok (.bipush 64, 2) := dk_16 64 (dk_at dksX8_sells_1 20 rfl rfl)
theorem dX8_sells_44 : decode cX8_sells 44 = .ok (.imul, 1) := dk_104 (dk_at dksX8_sells_1 22 rfl rfl)
theorem dX8_sells_45 : decode cX8_sells 45 = .ok (.istore 4, 2) := dk_54 4 (dk_at dksX8_sells_2 0 rfl rfl)
theorem dX8_sells_47 : decode cX8_sells 47 = .ok (.aload_n 0, 1) := dk_42 (dk_at dksX8_sells_2 2 rfl rfl)
theorem dX8_sells_48 : decode cX8_sells 48 = .ok (.iconst 4, 1) := dk_7 (dk_at dksX8_sells_2 3 rfl rfl)
theorem dX8_sells_49 : decode cX8_sells 49 = .ok (.iload_n 1, 1) := dk_27 (dk_at dksX8_sells_2 4 rfl rfl)
theorem dX8_sells_50 : decode cX8_sells 50 = .ok (.iadd, 1) := dk_96 (dk_at dksX8_sells_2 5 rfl rfl)
theorem dX8_sells_51 : decode cX8_sells 51 = .ok (.invokevirtual 181, 3) := dk_182 0 181 (dk_at dksX8_sells_2 6 rfl rfl)
theorem dX8_sells_54 : decode cX8_sells 54 = .ok (.istore 5, 2) := dk_54 5 (dk_at dksX8_sells_2 9 rfl rfl)
theorem dX8_sells_56 : decode cX8_sells 56 = .ok (.aload_n 0, 1) := dk_42 (dk_at dksX8_sells_2 11 rfl rfl)
theorem dX8_sells_57 : decode cX8_sells 57 = .ok (.iload_n 1, 1) := dk_27 (dk_at dksX8_sells_2 12 rfl rfl)
theorem dX8_sells_58 : decode cX8_sells 58 = .ok (.iconst 0, 1) := dk_3 (dk_at dksX8_sells_2 13 rfl rfl)
theorem dX8_sells_59 : decode cX8_sells 59 = .ok (.invokevirtual 178, 3) := dk_182 0 178 (dk_at dksX8_sells_2 14 rfl rfl)
theorem dX8_sells_62 : decode cX8_sells 62 = .ok (.iload 4, 2) := dk_21 4 (dk_at dksX8_sells_2 17 rfl rfl)
theorem dX8_sells_64 : decode cX8_sells 64 = .ok (.if_icmp .ge 29, 3) := dk_162 0 29 (dk_at dksX8_sells_2 19 rfl rfl)
theorem dX8_sells_67 : decode cX8_sells 67 = .ok (.aload_n 0, 1) := dk_42 (dk_at dksX8_sells_2 22 rfl rfl)
theorem dX8_sells_68 : decode cX8_sells 68 = .ok (.bipush 8, 2) := dk_16 8 (dk_at dksX8_sells_3 0 rfl rfl)
theorem dX8_sells_70 : decode cX8_sells 70 = .ok (.aload_n 0, 1) := dk_42 (dk_at dksX8_sells_3 2 rfl rfl)
theorem dX8_sells_71 : decode cX8_sells 71 = .ok (.iload_n 1, 1) := dk_27 (dk_at dksX8_sells_3 3 rfl rfl)
theorem dX8_sells_72 : decode cX8_sells 72 = .ok (.iconst 0, 1) := dk_3 (dk_at dksX8_sells_3 4 rfl rfl)
theorem dX8_sells_73 : decode cX8_sells 73 = .ok (.invokevirtual 178, 3) := dk_182 0 178 (dk_at dksX8_sells_3 5 rfl rfl)
theorem dX8_sells_76 : decode cX8_sells 76 = .ok (.iload 5, 2) := dk_21 5 (dk_at dksX8_sells_3 8 rfl rfl)
theorem dX8_sells_78 : decode cX8_sells 78 = .ok (.ifCond .le 8, 3) := dk_158 0 8 (dk_at dksX8_sells_3 10 rfl rfl)
theorem dX8_sells_81 : decode cX8_sells 81 = .ok (.bipush 13, 2) := dk_16 13 (dk_at dksX8_sells_3 13 rfl rfl)
theorem dX8_sells_83 : decode cX8_sells 83 = .ok (.goto 4, 3) := dk_167 0 4 (dk_at dksX8_sells_3 15 rfl rfl)
theorem dX8_sells_86 : decode cX8_sells 86 = .ok (.iconst 0, 1) := dk_3 (dk_at dksX8_sells_3 18 rfl rfl)
theorem dX8_sells_87 : decode cX8_sells 87 = .ok (.iload 5, 2) := dk_21 5 (dk_at dksX8_sells_3 19 rfl rfl)
theorem dX8_sells_89 : decode cX8_sells 89 = .ok (.invokevirtual 100, 3) := dk_182 0 100 (dk_at dksX8_sells_3 21 rfl rfl)
theorem dX8_sells_92 : decode cX8_sells 92 = .ok (.ireturn, 1) := dk_172 (dk_at dksX8_sells_4 0 rfl rfl)
theorem dX8_sells_93 : decode cX8_sells 93 = .ok (.iload_n 2, 1) := dk_28 (dk_at dksX8_sells_4 1 rfl rfl)
theorem dX8_sells_94 : decode cX8_sells 94 = .ok (.aload_n 0, 1) := dk_42 (dk_at dksX8_sells_4 2 rfl rfl)
theorem dX8_sells_95 : decode cX8_sells 95 = .ok (.iload_n 1, 1) := dk_27 (dk_at dksX8_sells_4 3 rfl rfl)
theorem dX8_sells_96 : decode cX8_sells 96 = .ok (.iconst 1, 1) := dk_4 (dk_at dksX8_sells_4 4 rfl rfl)
theorem dX8_sells_97 : decode cX8_sells 97 = .ok (.invokevirtual 178, 3) := dk_182 0 178 (dk_at dksX8_sells_4 5 rfl rfl)
theorem dX8_sells_100 : decode cX8_sells 100 = .ok (.iload_n 3, 1) := dk_29 (dk_at dksX8_sells_4 8 rfl rfl)
theorem dX8_sells_101 : decode cX8_sells 101 = .ok (.iadd, 1) := dk_96 (dk_at dksX8_sells_4 9 rfl rfl)
theorem dX8_sells_102 : decode cX8_sells 102 = .ok (.imul, 1) := dk_104 (dk_at dksX8_sells_4 10 rfl rfl)
theorem dX8_sells_103 : decode cX8_sells 103 = .ok (.istore 6, 2) := dk_54 6 (dk_at dksX8_sells_4 11 rfl rfl)
theorem dX8_sells_105 : decode cX8_sells 105 = .ok (.aload_n 0, 1) := dk_42 (dk_at dksX8_sells_4 13 rfl rfl)
theorem dX8_sells_106 : decode cX8_sells 106 = .ok (.getfield 9, 3) := dk_180 0 9 (dk_at dksX8_sells_4 14 rfl rfl)
theorem dX8_sells_109 : decode cX8_sells 109 = .ok (.sipush 391, 3) := dk_17 1 135 (dk_at dksX8_sells_4 17 rfl rfl)
theorem dX8_sells_112 : decode cX8_sells 112 = .ok (.iconst 5, 1) := dk_8 (dk_at dksX8_sells_4 20 rfl rfl)
theorem dX8_sells_113 : decode cX8_sells 113 = .ok (.iload_n 1, 1) := dk_27 (dk_at dksX8_sells_4 21 rfl rfl)
theorem dX8_sells_114 : decode cX8_sells 114 = .ok (.imul, 1) := dk_104 (dk_at dksX8_sells_4 22 rfl rfl)
theorem dX8_sells_115 : decode cX8_sells 115 = .ok (.iadd, 1) := dk_96 (dk_at dksX8_sells_4 23 rfl rfl)
theorem dX8_sells_116 : decode cX8_sells 116 = .ok (.dup2, 1) := dk_92 (dk_at dksX8_sells_5 0 rfl rfl)
theorem dX8_sells_117 : decode cX8_sells 117 = .ok (.iaload, 1) := dk_46 (dk_at dksX8_sells_5 1 rfl rfl)
theorem dX8_sells_118 : decode cX8_sells 118 = .ok (.iload 4, 2) := dk_21 4 (dk_at dksX8_sells_5 2 rfl rfl)
theorem dX8_sells_120 : decode cX8_sells 120 = .ok (.isub, 1) := dk_100 (dk_at dksX8_sells_5 4 rfl rfl)
theorem dX8_sells_121 : decode cX8_sells 121 = .ok (.iastore, 1) := dk_79 (dk_at dksX8_sells_5 5 rfl rfl)
theorem dX8_sells_122 : decode cX8_sells 122 = .ok (.aload_n 0, 1) := dk_42 (dk_at dksX8_sells_5 6 rfl rfl)
theorem dX8_sells_123 : decode cX8_sells 123 = .ok (.getfield 9, 3) := dk_180 0 9 (dk_at dksX8_sells_5 7 rfl rfl)
theorem dX8_sells_126 : decode cX8_sells 126 = .ok (.sipush 391, 3) := dk_17 1 135 (dk_at dksX8_sells_5 10 rfl rfl)
theorem dX8_sells_129 : decode cX8_sells 129 = .ok (.iconst 5, 1) := dk_8 (dk_at dksX8_sells_5 13 rfl rfl)
theorem dX8_sells_130 : decode cX8_sells 130 = .ok (.iload_n 1, 1) := dk_27 (dk_at dksX8_sells_5 14 rfl rfl)
theorem dX8_sells_131 : decode cX8_sells 131 = .ok (.imul, 1) := dk_104 (dk_at dksX8_sells_5 15 rfl rfl)
theorem dX8_sells_132 : decode cX8_sells 132 = .ok (.iadd, 1) := dk_96 (dk_at dksX8_sells_5 16 rfl rfl)
theorem dX8_sells_133 : decode cX8_sells 133 = .ok (.iconst 2, 1) := dk_5 (dk_at dksX8_sells_5 17 rfl rfl)
theorem dX8_sells_134 : decode cX8_sells 134 = .ok (.iadd, 1) := dk_96 (dk_at dksX8_sells_5 18 rfl rfl)
theorem dX8_sells_135 : decode cX8_sells 135 = .ok (.dup2, 1) := dk_92 (dk_at dksX8_sells_5 19 rfl rfl)
theorem dX8_sells_136 : decode cX8_sells 136 = .ok (.iaload, 1) := dk_46 (dk_at dksX8_sells_5 20 rfl rfl)
theorem dX8_sells_137 : decode cX8_sells 137 = .ok (.iload_n 2, 1) := dk_28 (dk_at dksX8_sells_5 21 rfl rfl)
theorem dX8_sells_138 : decode cX8_sells 138 = .ok (.iadd, 1) := dk_96 (dk_at dksX8_sells_5 22 rfl rfl)
theorem dX8_sells_139 : decode cX8_sells 139 = .ok (.iastore, 1) := dk_79 (dk_at dksX8_sells_5 23 rfl rfl)
theorem dX8_sells_140 : decode cX8_sells 140 = .ok (.aload_n 0, 1) := dk_42 (dk_at dksX8_sells_6 0 rfl rfl)
theorem dX8_sells_141 : decode cX8_sells 141 = .ok (.getfield 9, 3) := dk_180 0 9 (dk_at dksX8_sells_6 1 rfl rfl)
theorem dX8_sells_144 : decode cX8_sells 144 = .ok (.sipush 391, 3) := dk_17 1 135 (dk_at dksX8_sells_6 4 rfl rfl)
theorem dX8_sells_147 : decode cX8_sells 147 = .ok (.iconst 5, 1) := dk_8 (dk_at dksX8_sells_6 7 rfl rfl)
theorem dX8_sells_148 : decode cX8_sells 148 = .ok (.iload_n 1, 1) := dk_27 (dk_at dksX8_sells_6 8 rfl rfl)
theorem dX8_sells_149 : decode cX8_sells 149 = .ok (.imul, 1) := dk_104 (dk_at dksX8_sells_6 9 rfl rfl)
theorem dX8_sells_150 : decode cX8_sells 150 = .ok (.iadd, 1) := dk_96 (dk_at dksX8_sells_6 10 rfl rfl)
theorem dX8_sells_151 : decode cX8_sells 151 = .ok (.iconst 3, 1) := dk_6 (dk_at dksX8_sells_6 11 rfl rfl)
theorem dX8_sells_152 : decode cX8_sells 152 = .ok (.iadd, 1) := dk_96 (dk_at dksX8_sells_6 12 rfl rfl)
theorem dX8_sells_153 : decode cX8_sells 153 = .ok (.dup2, 1) := dk_92 (dk_at dksX8_sells_6 13 rfl rfl)
theorem dX8_sells_154 : decode cX8_sells 154 = .ok (.iaload, 1) := dk_46 (dk_at dksX8_sells_6 14 rfl rfl)
theorem dX8_sells_155 : decode cX8_sells 155 = .ok (.iload 4, 2) := dk_21 4 (dk_at dksX8_sells_6 15 rfl rfl)
theorem dX8_sells_157 : decode cX8_sells 157 = .ok (.iadd, 1) := dk_96 (dk_at dksX8_sells_6 17 rfl rfl)
theorem dX8_sells_158 : decode cX8_sells 158 = .ok (.iastore, 1) := dk_79 (dk_at dksX8_sells_6 18 rfl rfl)
theorem dX8_sells_159 : decode cX8_sells 159 = .ok (.aload_n 0, 1) := dk_42 (dk_at dksX8_sells_6 19 rfl rfl)
theorem dX8_sells_160 : decode cX8_sells 160 = .ok (.getfield 9, 3) := dk_180 0 9 (dk_at dksX8_sells_6 20 rfl rfl)
theorem dX8_sells_163 : decode cX8_sells 163 = .ok (.sipush 431, 3) := dk_17 1 175 (dk_at dksX8_sells_7 0 rfl rfl)
theorem dX8_sells_166 : decode cX8_sells 166 = .ok (.dup2, 1) := dk_92 (dk_at dksX8_sells_7 3 rfl rfl)
theorem dX8_sells_167 : decode cX8_sells 167 = .ok (.iaload, 1) := dk_46 (dk_at dksX8_sells_7 4 rfl rfl)
theorem dX8_sells_168 : decode cX8_sells 168 = .ok (.iload 4, 2) := dk_21 4 (dk_at dksX8_sells_7 5 rfl rfl)
theorem dX8_sells_170 : decode cX8_sells 170 = .ok (.iadd, 1) := dk_96 (dk_at dksX8_sells_7 7 rfl rfl)
theorem dX8_sells_171 : decode cX8_sells 171 = .ok (.iastore, 1) := dk_79 (dk_at dksX8_sells_7 8 rfl rfl)
theorem dX8_sells_172 : decode cX8_sells 172 = .ok (.aload_n 0, 1) := dk_42 (dk_at dksX8_sells_7 9 rfl rfl)
theorem dX8_sells_173 : decode cX8_sells 173 = .ok (.getfield 9, 3) := dk_180 0 9 (dk_at dksX8_sells_7 10 rfl rfl)
theorem dX8_sells_176 : decode cX8_sells 176 = .ok (.sipush 429, 3) := dk_17 1 173 (dk_at dksX8_sells_7 13 rfl rfl)
theorem dX8_sells_179 : decode cX8_sells 179 = .ok (.dup2, 1) := dk_92 (dk_at dksX8_sells_7 16 rfl rfl)
theorem dX8_sells_180 : decode cX8_sells 180 = .ok (.iaload, 1) := dk_46 (dk_at dksX8_sells_7 17 rfl rfl)
theorem dX8_sells_181 : decode cX8_sells 181 = .ok (.iload 6, 2) := dk_21 6 (dk_at dksX8_sells_7 18 rfl rfl)
theorem dX8_sells_183 : decode cX8_sells 183 = .ok (.iadd, 1) := dk_96 (dk_at dksX8_sells_7 20 rfl rfl)
theorem dX8_sells_184 : decode cX8_sells 184 = .ok (.iastore, 1) := dk_79 (dk_at dksX8_sells_7 21 rfl rfl)
theorem dX8_sells_185 : decode cX8_sells 185 = .ok (.iload 6, 2) := dk_21 6 (dk_at dksX8_sells_7 22 rfl rfl)
theorem dX8_sells_187 : decode cX8_sells 187 = .ok (.ireturn, 1) := dk_172 (dk_at dksX8_sells_8 0 rfl rfl)
def dkwX8_rats_0 : List UInt8 := [42, 180, 0, 9, 17, 1, 150, 6, 27, 104, 96, 4, 96, 46, 172]
abbrev dktX8_rats_0 : List UInt8 := dkwX8_rats_0 ++ []
theorem dksX8_rats_0 : cX8_rats.data.toList.drop 0 = dktX8_rats_0 := by decide +kernel
theorem dX8_rats_0 : decode cX8_rats 0 = .ok (.aload_n 0, 1) := dk_42 (dk_at dksX8_rats_0 0 rfl rfl)
theorem dX8_rats_1 : decode cX8_rats 1 = .ok (.getfield 9, 3) := dk_180 0 9 (dk_at dksX8_rats_0 1 rfl rfl)
theorem dX8_rats_4 : decode cX8_rats 4 = .ok (.sipush 406, 3) := dk_17 1 150 (dk_at dksX8_rats_0 4 rfl rfl)
theorem dX8_rats_7 : decode cX8_rats 7 = .ok (.iconst 3, 1) := dk_6 (dk_at dksX8_rats_0 7 rfl rfl)
theorem dX8_rats_8 : decode cX8_rats 8 = .ok (.iload_n 1, 1) := dk_27 (dk_at dksX8_rats_0 8 rfl rfl)
theorem dX8_rats_9 : decode cX8_rats 9 = .ok (.imul, 1) := dk_104 (dk_at dksX8_rats_0 9 rfl rfl)
theorem dX8_rats_10 : decode cX8_rats 10 = .ok (.iadd, 1) := dk_96 (dk_at dksX8_rats_0 10 rfl rfl)
theorem dX8_rats_11 : decode cX8_rats 11 = .ok (.iconst 1, 1) := dk_4 (dk_at dksX8_rats_0 11 rfl rfl)
theorem dX8_rats_12 : decode cX8_rats 12 = .ok (.iadd, 1) := dk_96 (dk_at dksX8_rats_0 12 rfl rfl)
theorem dX8_rats_13 : decode cX8_rats 13 = .ok (.iaload, 1) := dk_46 (dk_at dksX8_rats_0 13 rfl rfl)
theorem dX8_rats_14 : decode cX8_rats 14 = .ok (.ireturn, 1) := dk_172 (dk_at dksX8_rats_0 14 rfl rfl)
def dkwX8_settle_0 : List UInt8 := [42, 182, 0, 97, 42, 42, 27, 28, 182, 0, 187, 182, 0, 104, 172]
abbrev dktX8_settle_0 : List UInt8 := dkwX8_settle_0 ++ []
theorem dksX8_settle_0 : cX8_settle.data.toList.drop 0 = dktX8_settle_0 := by decide +kernel
theorem dX8_settle_0 : decode cX8_settle 0 = .ok (.aload_n 0, 1) := dk_42 (dk_at dksX8_settle_0 0 rfl rfl)
theorem dX8_settle_1 : decode cX8_settle 1 = .ok (.invokevirtual 97, 3) := dk_182 0 97 (dk_at dksX8_settle_0 1 rfl rfl)
theorem dX8_settle_4 : decode cX8_settle 4 = .ok (.aload_n 0, 1) := dk_42 (dk_at dksX8_settle_0 4 rfl rfl)
theorem dX8_settle_5 : decode cX8_settle 5 = .ok (.aload_n 0, 1) := dk_42 (dk_at dksX8_settle_0 5 rfl rfl)
theorem dX8_settle_6 : decode cX8_settle 6 = .ok (.iload_n 1, 1) := dk_27 (dk_at dksX8_settle_0 6 rfl rfl)
theorem dX8_settle_7 : decode cX8_settle 7 = .ok (.iload_n 2, 1) := dk_28 (dk_at dksX8_settle_0 7 rfl rfl)
theorem dX8_settle_8 : decode cX8_settle 8 = .ok (.invokevirtual 187, 3) := dk_182 0 187 (dk_at dksX8_settle_0 8 rfl rfl)
theorem dX8_settle_11 : decode cX8_settle 11 = .ok (.invokevirtual 104, 3) := dk_182 0 104 (dk_at dksX8_settle_0 11 rfl rfl)
theorem dX8_settle_14 : decode cX8_settle 14 = .ok (.ireturn, 1) := dk_172 (dk_at dksX8_settle_0 14 rfl rfl)
def dkwX8_settles_3 : List UInt8 := [28, 5, 108, 100, 79, 42, 180, 0, 9, 17, 1, 173, 92, 46, 28, 96, 79, 42, 27, 5, 182, 0, 89, 172]
abbrev dktX8_settles_3 : List UInt8 := dkwX8_settles_3 ++ []
def dkwX8_settles_2 : List UInt8 := [5, 182, 0, 89, 3, 3, 182, 0, 100, 172, 42, 180, 0, 9, 4, 16, 23, 27, 104, 96, 5, 96, 92, 46]
abbrev dktX8_settles_2 : List UInt8 := dkwX8_settles_2 ++ dktX8_settles_3
def dkwX8_settles_1 : List UInt8 := [4, 160, 0, 6, 16, 254, 172, 42, 27, 5, 182, 0, 89, 28, 5, 108, 162, 0, 18, 42, 16, 10, 42, 27]
abbrev dktX8_settles_1 : List UInt8 := dkwX8_settles_1 ++ dktX8_settles_2
def dkwX8_settles_0 : List UInt8 := [42, 27, 182, 0, 107, 154, 0, 5, 2, 172, 28, 5, 17, 3, 230, 184, 0, 56, 153, 0, 10, 28, 5, 112]
abbrev dktX8_settles_0 : List UInt8 := dkwX8_settles_0 ++ dktX8_settles_1
theorem dksX8_settles_0 : cX8_settles.data.toList.drop 0 = dktX8_settles_0 := by decide +kernel
theorem dksX8_settles_1 : cX8_settles.data.toList.drop 24 = dktX8_settles_1 := dk_seg dksX8_settles_0 24 rfl rfl
theorem dksX8_settles_2 : cX8_settles.data.toList.drop 48 = dktX8_settles_2 := dk_seg dksX8_settles_1 24 rfl rfl
theorem dksX8_settles_3 : cX8_settles.data.toList.drop 72 = dktX8_settles_3 := dk_seg dksX8_settles_2 24 rfl rfl
theorem dX8_settles_0 : decode cX8_settles 0 = .ok (.aload_n 0, 1) := dk_42 (dk_at dksX8_settles_0 0 rfl rfl)
theorem dX8_settles_1 : decode cX8_settles 1 = .ok (.iload_n 1, 1) := dk_27 (dk_at dksX8_settles_0 1 rfl rfl)
theorem dX8_settles_2 : decode cX8_settles 2 = .ok (.invokevirtual 107, 3) := dk_182 0 107 (dk_at dksX8_settles_0 2 rfl rfl)
theorem dX8_settles_5 : decode cX8_settles 5 = .ok (.ifCond .ne 5, 3) := dk_154 0 5 (dk_at dksX8_settles_0 5 rfl rfl)
theorem dX8_settles_8 : decode cX8_settles 8 = .ok (.iconst (-1), 1) := dk_2 (dk_at dksX8_settles_0 8 rfl rfl)
theorem dX8_settles_9 : decode cX8_settles 9 = .ok (.ireturn, 1) := dk_172 (dk_at dksX8_settles_0 9 rfl rfl)
theorem dX8_settles_10 : decode cX8_settles 10 = .ok (.iload_n 2, 1) := dk_28 (dk_at dksX8_settles_0 10 rfl rfl)
theorem dX8_settles_11 : decode cX8_settles 11 = .ok (.iconst 2, 1) := dk_5 (dk_at dksX8_settles_0 11 rfl rfl)
theorem dX8_settles_12 : decode cX8_settles 12 = .ok (.sipush 998, 3) := dk_17 3 230 (dk_at dksX8_settles_0 12 rfl rfl)
theorem dX8_settles_15 : decode cX8_settles 15 = .ok (.invokestatic 56, 3) := dk_184 0 56 (dk_at dksX8_settles_0 15 rfl rfl)
theorem dX8_settles_18 : decode cX8_settles 18 = .ok (.ifCond .eq 10, 3) := dk_153 0 10 (dk_at dksX8_settles_0 18 rfl rfl)
theorem dX8_settles_21 : decode cX8_settles 21 = .ok (.iload_n 2, 1) := dk_28 (dk_at dksX8_settles_0 21 rfl rfl)
theorem dX8_settles_22 : decode cX8_settles 22 = .ok (.iconst 2, 1) := dk_5 (dk_at dksX8_settles_0 22 rfl rfl)
theorem dX8_settles_23 : decode cX8_settles 23 = .ok (.irem, 1) := dk_112 (dk_at dksX8_settles_0 23 rfl rfl)
theorem dX8_settles_24 : decode cX8_settles 24 = .ok (.iconst 1, 1) := dk_4 (dk_at dksX8_settles_1 0 rfl rfl)
theorem dX8_settles_25 : decode cX8_settles 25 = .ok (.if_icmp .ne 6, 3) := dk_160 0 6 (dk_at dksX8_settles_1 1 rfl rfl)
theorem dX8_settles_28 : decode cX8_settles 28 = .ok (.bipush (-2), 2) := dk_16 254 (dk_at dksX8_settles_1 4 rfl rfl)
theorem dX8_settles_30 : decode cX8_settles 30 = .ok (.ireturn, 1) := dk_172 (dk_at dksX8_settles_1 6 rfl rfl)
theorem dX8_settles_31 : decode cX8_settles 31 = .ok (.aload_n 0, 1) := dk_42 (dk_at dksX8_settles_1 7 rfl rfl)
theorem dX8_settles_32 : decode cX8_settles 32 = .ok (.iload_n 1, 1) := dk_27 (dk_at dksX8_settles_1 8 rfl rfl)
theorem dX8_settles_33 : decode cX8_settles 33 = .ok (.iconst 2, 1) := dk_5 (dk_at dksX8_settles_1 9 rfl rfl)
theorem dX8_settles_34 : decode cX8_settles 34 = .ok (.invokevirtual 89, 3) := dk_182 0 89 (dk_at dksX8_settles_1 10 rfl rfl)
theorem dX8_settles_37 : decode cX8_settles 37 = .ok (.iload_n 2, 1) := dk_28 (dk_at dksX8_settles_1 13 rfl rfl)
theorem dX8_settles_38 : decode cX8_settles 38 = .ok (.iconst 2, 1) := dk_5 (dk_at dksX8_settles_1 14 rfl rfl)
theorem dX8_settles_39 : decode cX8_settles 39 = .ok (.idiv, 1) := dk_108 (dk_at dksX8_settles_1 15 rfl rfl)
theorem dX8_settles_40 : decode cX8_settles 40 = .ok (.if_icmp .ge 18, 3) := dk_162 0 18 (dk_at dksX8_settles_1 16 rfl rfl)
theorem dX8_settles_43 : decode cX8_settles 43 = .ok (.aload_n 0, 1) := dk_42 (dk_at dksX8_settles_1 19 rfl rfl)
theorem dX8_settles_44 : decode cX8_settles 44 = .ok (.bipush 10, 2) := dk_16 10 (dk_at dksX8_settles_1 20 rfl rfl)
theorem dX8_settles_46 : decode cX8_settles 46 = .ok (.aload_n 0, 1) := dk_42 (dk_at dksX8_settles_1 22 rfl rfl)
theorem dX8_settles_47 : decode cX8_settles 47 = .ok (.iload_n 1, 1) := dk_27 (dk_at dksX8_settles_1 23 rfl rfl)
theorem dX8_settles_48 : decode cX8_settles 48 = .ok (.iconst 2, 1) := dk_5 (dk_at dksX8_settles_2 0 rfl rfl)
theorem dX8_settles_49 : decode cX8_settles 49 = .ok (.invokevirtual 89, 3) := dk_182 0 89 (dk_at dksX8_settles_2 1 rfl rfl)
theorem dX8_settles_52 : decode cX8_settles 52 = .ok (.iconst 0, 1) := dk_3 (dk_at dksX8_settles_2 4 rfl rfl)
theorem dX8_settles_53 : decode cX8_settles 53 = .ok (.iconst 0, 1) := dk_3 (dk_at dksX8_settles_2 5 rfl rfl)
theorem dX8_settles_54 : decode cX8_settles 54 = .ok (.invokevirtual 100, 3) := dk_182 0 100 (dk_at dksX8_settles_2 6 rfl rfl)
theorem dX8_settles_57 : decode cX8_settles 57 = .ok (.ireturn, 1) := dk_172 (dk_at dksX8_settles_2 9 rfl rfl)
theorem dX8_settles_58 : decode cX8_settles 58 = .ok (.aload_n 0, 1) := dk_42 (dk_at dksX8_settles_2 10 rfl rfl)
theorem dX8_settles_59 : decode cX8_settles 59 = .ok (.getfield 9, 3) := dk_180 0 9 (dk_at dksX8_settles_2 11 rfl rfl)
theorem dX8_settles_62 : decode cX8_settles 62 = .ok (.iconst 1, 1) := dk_4 (dk_at dksX8_settles_2 14 rfl rfl)
theorem dX8_settles_63 : decode cX8_settles 63 = .ok (.bipush 23, 2) := dk_16 23 (dk_at dksX8_settles_2 15 rfl rfl)
theorem dX8_settles_65 : decode cX8_settles 65 = .ok (.iload_n 1, 1) := dk_27 (dk_at dksX8_settles_2 17 rfl rfl)
theorem dX8_settles_66 : decode cX8_settles 66 = .ok (.imul, 1) := dk_104 (dk_at dksX8_settles_2 18 rfl rfl)
theorem dX8_settles_67 : decode cX8_settles 67 = .ok (.iadd, 1) := dk_96 (dk_at dksX8_settles_2 19 rfl rfl)
theorem dX8_settles_68 : decode cX8_settles 68 = .ok (.iconst 2, 1) := dk_5 (dk_at dksX8_settles_2 20 rfl rfl)
theorem dX8_settles_69 : decode cX8_settles 69 = .ok (.iadd, 1) := dk_96 (dk_at dksX8_settles_2 21 rfl rfl)
theorem dX8_settles_70 : decode cX8_settles 70 = .ok (.dup2, 1) := dk_92 (dk_at dksX8_settles_2 22 rfl rfl)
theorem dX8_settles_71 : decode cX8_settles 71 = .ok (.iaload, 1) := dk_46 (dk_at dksX8_settles_2 23 rfl rfl)
theorem dX8_settles_72 : decode cX8_settles 72 = .ok (.iload_n 2, 1) := dk_28 (dk_at dksX8_settles_3 0 rfl rfl)
theorem dX8_settles_73 : decode cX8_settles 73 = .ok (.iconst 2, 1) := dk_5 (dk_at dksX8_settles_3 1 rfl rfl)
theorem dX8_settles_74 : decode cX8_settles 74 = .ok (.idiv, 1) := dk_108 (dk_at dksX8_settles_3 2 rfl rfl)
theorem dX8_settles_75 : decode cX8_settles 75 = .ok (.isub, 1) := dk_100 (dk_at dksX8_settles_3 3 rfl rfl)
theorem dX8_settles_76 : decode cX8_settles 76 = .ok (.iastore, 1) := dk_79 (dk_at dksX8_settles_3 4 rfl rfl)
theorem dX8_settles_77 : decode cX8_settles 77 = .ok (.aload_n 0, 1) := dk_42 (dk_at dksX8_settles_3 5 rfl rfl)
theorem dX8_settles_78 : decode cX8_settles 78 = .ok (.getfield 9, 3) := dk_180 0 9 (dk_at dksX8_settles_3 6 rfl rfl)
theorem dX8_settles_81 : decode cX8_settles 81 = .ok (.sipush 429, 3) := dk_17 1 173 (dk_at dksX8_settles_3 9 rfl rfl)
theorem dX8_settles_84 : decode cX8_settles 84 = .ok (.dup2, 1) := dk_92 (dk_at dksX8_settles_3 12 rfl rfl)
theorem dX8_settles_85 : decode cX8_settles 85 = .ok (.iaload, 1) := dk_46 (dk_at dksX8_settles_3 13 rfl rfl)
theorem dX8_settles_86 : decode cX8_settles 86 = .ok (.iload_n 2, 1) := dk_28 (dk_at dksX8_settles_3 14 rfl rfl)
theorem dX8_settles_87 : decode cX8_settles 87 = .ok (.iadd, 1) := dk_96 (dk_at dksX8_settles_3 15 rfl rfl)
theorem dX8_settles_88 : decode cX8_settles 88 = .ok (.iastore, 1) := dk_79 (dk_at dksX8_settles_3 16 rfl rfl)
theorem dX8_settles_89 : decode cX8_settles 89 = .ok (.aload_n 0, 1) := dk_42 (dk_at dksX8_settles_3 17 rfl rfl)
theorem dX8_settles_90 : decode cX8_settles 90 = .ok (.iload_n 1, 1) := dk_27 (dk_at dksX8_settles_3 18 rfl rfl)
theorem dX8_settles_91 : decode cX8_settles 91 = .ok (.iconst 2, 1) := dk_5 (dk_at dksX8_settles_3 19 rfl rfl)
theorem dX8_settles_92 : decode cX8_settles 92 = .ok (.invokevirtual 89, 3) := dk_182 0 89 (dk_at dksX8_settles_3 20 rfl rfl)
theorem dX8_settles_95 : decode cX8_settles 95 = .ok (.ireturn, 1) := dk_172 (dk_at dksX8_settles_3 23 rfl rfl)
def dkwX8_stop_0 : List UInt8 := [42, 182, 0, 97, 42, 42, 27, 182, 0, 193, 182, 0, 104, 172]
abbrev dktX8_stop_0 : List UInt8 := dkwX8_stop_0 ++ []
theorem dksX8_stop_0 : cX8_stop.data.toList.drop 0 = dktX8_stop_0 := by decide +kernel
theorem dX8_stop_0 : decode cX8_stop 0 = .ok (.aload_n 0, 1) := dk_42 (dk_at dksX8_stop_0 0 rfl rfl)
theorem dX8_stop_1 : decode cX8_stop 1 = .ok (.invokevirtual 97, 3) := dk_182 0 97 (dk_at dksX8_stop_0 1 rfl rfl)
theorem dX8_stop_4 : decode cX8_stop 4 = .ok (.aload_n 0, 1) := dk_42 (dk_at dksX8_stop_0 4 rfl rfl)
theorem dX8_stop_5 : decode cX8_stop 5 = .ok (.aload_n 0, 1) := dk_42 (dk_at dksX8_stop_0 5 rfl rfl)
theorem dX8_stop_6 : decode cX8_stop 6 = .ok (.iload_n 1, 1) := dk_27 (dk_at dksX8_stop_0 6 rfl rfl)
theorem dX8_stop_7 : decode cX8_stop 7 = .ok (.invokevirtual 193, 3) := dk_182 0 193 (dk_at dksX8_stop_0 7 rfl rfl)
theorem dX8_stop_10 : decode cX8_stop 10 = .ok (.invokevirtual 104, 3) := dk_182 0 104 (dk_at dksX8_stop_0 10 rfl rfl)
theorem dX8_stop_13 : decode cX8_stop 13 = .ok (.ireturn, 1) := dk_172 (dk_at dksX8_stop_0 13 rfl rfl)
def dkwX8_stops_2 : List UInt8 := [100, 79, 42, 180, 0, 9, 17, 1, 150, 6, 27, 104, 96, 46, 172]
abbrev dktX8_stops_2 : List UInt8 := dkwX8_stops_2 ++ []
def dkwX8_stops_1 : List UInt8 := [42, 16, 9, 27, 3, 3, 182, 0, 100, 172, 42, 180, 0, 9, 17, 1, 150, 6, 27, 104, 96, 92, 46, 4]
abbrev dktX8_stops_1 : List UInt8 := dkwX8_stops_1 ++ dktX8_stops_2
def dkwX8_stops_0 : List UInt8 := [27, 184, 0, 190, 154, 0, 5, 2, 172, 42, 180, 0, 9, 17, 1, 150, 6, 27, 104, 96, 46, 154, 0, 13]
abbrev dktX8_stops_0 : List UInt8 := dkwX8_stops_0 ++ dktX8_stops_1
theorem dksX8_stops_0 : cX8_stops.data.toList.drop 0 = dktX8_stops_0 := by decide +kernel
theorem dksX8_stops_1 : cX8_stops.data.toList.drop 24 = dktX8_stops_1 := dk_seg dksX8_stops_0 24 rfl rfl
theorem dksX8_stops_2 : cX8_stops.data.toList.drop 48 = dktX8_stops_2 := dk_seg dksX8_stops_1 24 rfl rfl
theorem dX8_stops_0 : decode cX8_stops 0 = .ok (.iload_n 1, 1) := dk_27 (dk_at dksX8_stops_0 0 rfl rfl)
theorem dX8_stops_1 : decode cX8_stops 1 = .ok (.invokestatic 190, 3) := dk_184 0 190 (dk_at dksX8_stops_0 1 rfl rfl)
theorem dX8_stops_4 : decode cX8_stops 4 = .ok (.ifCond .ne 5, 3) := dk_154 0 5 (dk_at dksX8_stops_0 4 rfl rfl)
theorem dX8_stops_7 : decode cX8_stops 7 = .ok (.iconst (-1), 1) := dk_2 (dk_at dksX8_stops_0 7 rfl rfl)
theorem dX8_stops_8 : decode cX8_stops 8 = .ok (.ireturn, 1) := dk_172 (dk_at dksX8_stops_0 8 rfl rfl)
theorem dX8_stops_9 : decode cX8_stops 9 = .ok (.aload_n 0, 1) := dk_42 (dk_at dksX8_stops_0 9 rfl rfl)
theorem dX8_stops_10 : decode cX8_stops 10 = .ok (.getfield 9, 3) := dk_180 0 9 (dk_at dksX8_stops_0 10 rfl rfl)
theorem dX8_stops_13 : decode cX8_stops 13 = .ok (.sipush 406, 3) := dk_17 1 150 (dk_at dksX8_stops_0 13 rfl rfl)
theorem dX8_stops_16 : decode cX8_stops 16 = .ok (.iconst 3, 1) := dk_6 (dk_at dksX8_stops_0 16 rfl rfl)
theorem dX8_stops_17 : decode cX8_stops 17 = .ok (.iload_n 1, 1) := dk_27 (dk_at dksX8_stops_0 17 rfl rfl)
theorem dX8_stops_18 : decode cX8_stops 18 = .ok (.imul, 1) := dk_104 (dk_at dksX8_stops_0 18 rfl rfl)
theorem dX8_stops_19 : decode cX8_stops 19 = .ok (.iadd, 1) := dk_96 (dk_at dksX8_stops_0 19 rfl rfl)
theorem dX8_stops_20 : decode cX8_stops 20 = .ok (.iaload, 1) := dk_46 (dk_at dksX8_stops_0 20 rfl rfl)
theorem dX8_stops_21 : decode cX8_stops 21 = .ok (.ifCond .ne 13, 3) := dk_154 0 13 (dk_at dksX8_stops_0 21 rfl rfl)
theorem dX8_stops_24 : decode cX8_stops 24 = .ok (.aload_n 0, 1) := dk_42 (dk_at dksX8_stops_1 0 rfl rfl)
theorem dX8_stops_25 : decode cX8_stops 25 = .ok (.bipush 9, 2) := dk_16 9 (dk_at dksX8_stops_1 1 rfl rfl)
theorem dX8_stops_27 : decode cX8_stops 27 = .ok (.iload_n 1, 1) := dk_27 (dk_at dksX8_stops_1 3 rfl rfl)
theorem dX8_stops_28 : decode cX8_stops 28 = .ok (.iconst 0, 1) := dk_3 (dk_at dksX8_stops_1 4 rfl rfl)
theorem dX8_stops_29 : decode cX8_stops 29 = .ok (.iconst 0, 1) := dk_3 (dk_at dksX8_stops_1 5 rfl rfl)
theorem dX8_stops_30 : decode cX8_stops 30 = .ok (.invokevirtual 100, 3) := dk_182 0 100 (dk_at dksX8_stops_1 6 rfl rfl)
theorem dX8_stops_33 : decode cX8_stops 33 = .ok (.ireturn, 1) := dk_172 (dk_at dksX8_stops_1 9 rfl rfl)
theorem dX8_stops_34 : decode cX8_stops 34 = .ok (.aload_n 0, 1) := dk_42 (dk_at dksX8_stops_1 10 rfl rfl)
theorem dX8_stops_35 : decode cX8_stops 35 = .ok (.getfield 9, 3) := dk_180 0 9 (dk_at dksX8_stops_1 11 rfl rfl)
theorem dX8_stops_38 : decode cX8_stops 38 = .ok (.sipush 406, 3) := dk_17 1 150 (dk_at dksX8_stops_1 14 rfl rfl)
theorem dX8_stops_41 : decode cX8_stops 41 = .ok (.iconst 3, 1) := dk_6 (dk_at dksX8_stops_1 17 rfl rfl)
theorem dX8_stops_42 : decode cX8_stops 42 = .ok (.iload_n 1, 1) := dk_27 (dk_at dksX8_stops_1 18 rfl rfl)
theorem dX8_stops_43 : decode cX8_stops 43 = .ok (.imul, 1) := dk_104 (dk_at dksX8_stops_1 19 rfl rfl)
theorem dX8_stops_44 : decode cX8_stops 44 = .ok (.iadd, 1) := dk_96 (dk_at dksX8_stops_1 20 rfl rfl)
theorem dX8_stops_45 : decode cX8_stops 45 = .ok (.dup2, 1) := dk_92 (dk_at dksX8_stops_1 21 rfl rfl)
theorem dX8_stops_46 : decode cX8_stops 46 = .ok (.iaload, 1) := dk_46 (dk_at dksX8_stops_1 22 rfl rfl)
theorem dX8_stops_47 : decode cX8_stops 47 = .ok (.iconst 1, 1) := dk_4 (dk_at dksX8_stops_1 23 rfl rfl)
theorem dX8_stops_48 : decode cX8_stops 48 = .ok (.isub, 1) := dk_100 (dk_at dksX8_stops_2 0 rfl rfl)
theorem dX8_stops_49 : decode cX8_stops 49 = .ok (.iastore, 1) := dk_79 (dk_at dksX8_stops_2 1 rfl rfl)
theorem dX8_stops_50 : decode cX8_stops 50 = .ok (.aload_n 0, 1) := dk_42 (dk_at dksX8_stops_2 2 rfl rfl)
theorem dX8_stops_51 : decode cX8_stops 51 = .ok (.getfield 9, 3) := dk_180 0 9 (dk_at dksX8_stops_2 3 rfl rfl)
theorem dX8_stops_54 : decode cX8_stops 54 = .ok (.sipush 406, 3) := dk_17 1 150 (dk_at dksX8_stops_2 6 rfl rfl)
theorem dX8_stops_57 : decode cX8_stops 57 = .ok (.iconst 3, 1) := dk_6 (dk_at dksX8_stops_2 9 rfl rfl)
theorem dX8_stops_58 : decode cX8_stops 58 = .ok (.iload_n 1, 1) := dk_27 (dk_at dksX8_stops_2 10 rfl rfl)
theorem dX8_stops_59 : decode cX8_stops 59 = .ok (.imul, 1) := dk_104 (dk_at dksX8_stops_2 11 rfl rfl)
theorem dX8_stops_60 : decode cX8_stops 60 = .ok (.iadd, 1) := dk_96 (dk_at dksX8_stops_2 12 rfl rfl)
theorem dX8_stops_61 : decode cX8_stops 61 = .ok (.iaload, 1) := dk_46 (dk_at dksX8_stops_2 13 rfl rfl)
theorem dX8_stops_62 : decode cX8_stops 62 = .ok (.ireturn, 1) := dk_172 (dk_at dksX8_stops_2 14 rfl rfl)
def dkwX8_isPlace_0 : List UInt8 := [26, 3, 16, 6, 184, 0, 56, 172]
abbrev dktX8_isPlace_0 : List UInt8 := dkwX8_isPlace_0 ++ []
theorem dksX8_isPlace_0 : cX8_isPlace.data.toList.drop 0 = dktX8_isPlace_0 := by decide +kernel
theorem dX8_isPlace_0 : decode cX8_isPlace 0 = .ok (.iload_n 0, 1) := dk_26 (dk_at dksX8_isPlace_0 0 rfl rfl)
theorem dX8_isPlace_1 : decode cX8_isPlace 1 = .ok (.iconst 0, 1) := dk_3 (dk_at dksX8_isPlace_0 1 rfl rfl)
theorem dX8_isPlace_2 : decode cX8_isPlace 2 = .ok (.bipush 6, 2) := dk_16 6 (dk_at dksX8_isPlace_0 2 rfl rfl)
theorem dX8_isPlace_4 : decode cX8_isPlace 4 = .ok (.invokestatic 56, 3) := dk_184 0 56 (dk_at dksX8_isPlace_0 4 rfl rfl)
theorem dX8_isPlace_7 : decode cX8_isPlace 7 = .ok (.ireturn, 1) := dk_172 (dk_at dksX8_isPlace_0 7 rfl rfl)
def dkwX8_cat_0 : List UInt8 := [42, 182, 0, 97, 42, 42, 27, 182, 0, 196, 182, 0, 104, 172]
abbrev dktX8_cat_0 : List UInt8 := dkwX8_cat_0 ++ []
theorem dksX8_cat_0 : cX8_cat.data.toList.drop 0 = dktX8_cat_0 := by decide +kernel
theorem dX8_cat_0 : decode cX8_cat 0 = .ok (.aload_n 0, 1) := dk_42 (dk_at dksX8_cat_0 0 rfl rfl)
theorem dX8_cat_1 : decode cX8_cat 1 = .ok (.invokevirtual 97, 3) := dk_182 0 97 (dk_at dksX8_cat_0 1 rfl rfl)
theorem dX8_cat_4 : decode cX8_cat 4 = .ok (.aload_n 0, 1) := dk_42 (dk_at dksX8_cat_0 4 rfl rfl)
theorem dX8_cat_5 : decode cX8_cat 5 = .ok (.aload_n 0, 1) := dk_42 (dk_at dksX8_cat_0 5 rfl rfl)
theorem dX8_cat_6 : decode cX8_cat 6 = .ok (.iload_n 1, 1) := dk_27 (dk_at dksX8_cat_0 6 rfl rfl)
theorem dX8_cat_7 : decode cX8_cat 7 = .ok (.invokevirtual 196, 3) := dk_182 0 196 (dk_at dksX8_cat_0 7 rfl rfl)
theorem dX8_cat_10 : decode cX8_cat 10 = .ok (.invokevirtual 104, 3) := dk_182 0 104 (dk_at dksX8_cat_0 10 rfl rfl)
theorem dX8_cat_13 : decode cX8_cat 13 = .ok (.ireturn, 1) := dk_172 (dk_at dksX8_cat_0 13 rfl rfl)
def dkwX8_comes_1 : List UInt8 := [180, 0, 9, 17, 1, 171, 27, 79, 28, 4, 96, 172]
abbrev dktX8_comes_1 : List UInt8 := dkwX8_comes_1 ++ []
def dkwX8_comes_0 : List UInt8 := [27, 184, 0, 190, 154, 0, 10, 27, 2, 159, 0, 5, 2, 172, 42, 180, 0, 9, 17, 1, 171, 46, 61, 42]
abbrev dktX8_comes_0 : List UInt8 := dkwX8_comes_0 ++ dktX8_comes_1
theorem dksX8_comes_0 : cX8_comes.data.toList.drop 0 = dktX8_comes_0 := by decide +kernel
theorem dksX8_comes_1 : cX8_comes.data.toList.drop 24 = dktX8_comes_1 := dk_seg dksX8_comes_0 24 rfl rfl
theorem dX8_comes_0 : decode cX8_comes 0 = .ok (.iload_n 1, 1) := dk_27 (dk_at dksX8_comes_0 0 rfl rfl)
theorem dX8_comes_1 : decode cX8_comes 1 = .ok (.invokestatic 190, 3) := dk_184 0 190 (dk_at dksX8_comes_0 1 rfl rfl)
theorem dX8_comes_4 : decode cX8_comes 4 = .ok (.ifCond .ne 10, 3) := dk_154 0 10 (dk_at dksX8_comes_0 4 rfl rfl)
theorem dX8_comes_7 : decode cX8_comes 7 = .ok (.iload_n 1, 1) := dk_27 (dk_at dksX8_comes_0 7 rfl rfl)
theorem dX8_comes_8 : decode cX8_comes 8 = .ok (.iconst (-1), 1) := dk_2 (dk_at dksX8_comes_0 8 rfl rfl)
theorem dX8_comes_9 : decode cX8_comes 9 = .ok (.if_icmp .eq 5, 3) := dk_159 0 5 (dk_at dksX8_comes_0 9 rfl rfl)
theorem dX8_comes_12 : decode cX8_comes 12 = .ok (.iconst (-1), 1) := dk_2 (dk_at dksX8_comes_0 12 rfl rfl)
theorem dX8_comes_13 : decode cX8_comes 13 = .ok (.ireturn, 1) := dk_172 (dk_at dksX8_comes_0 13 rfl rfl)
theorem dX8_comes_14 : decode cX8_comes 14 = .ok (.aload_n 0, 1) := dk_42 (dk_at dksX8_comes_0 14 rfl rfl)
theorem dX8_comes_15 : decode cX8_comes 15 = .ok (.getfield 9, 3) := dk_180 0 9 (dk_at dksX8_comes_0 15 rfl rfl)
theorem dX8_comes_18 : decode cX8_comes 18 = .ok (.sipush 427, 3) := dk_17 1 171 (dk_at dksX8_comes_0 18 rfl rfl)
theorem dX8_comes_21 : decode cX8_comes 21 = .ok (.iaload, 1) := dk_46 (dk_at dksX8_comes_0 21 rfl rfl)
theorem dX8_comes_22 : decode cX8_comes 22 = .ok (.istore_n 2, 1) := dk_61 (dk_at dksX8_comes_0 22 rfl rfl)
theorem dX8_comes_23 : decode cX8_comes 23 = .ok (.aload_n 0, 1) := dk_42 (dk_at dksX8_comes_0 23 rfl rfl)
theorem dX8_comes_24 : decode cX8_comes 24 = .ok (.getfield 9, 3) := dk_180 0 9 (dk_at dksX8_comes_1 0 rfl rfl)
theorem dX8_comes_27 : decode cX8_comes 27 = .ok (.sipush 427, 3) := dk_17 1 171 (dk_at dksX8_comes_1 3 rfl rfl)
theorem dX8_comes_30 : decode cX8_comes 30 = .ok (.iload_n 1, 1) := dk_27 (dk_at dksX8_comes_1 6 rfl rfl)
theorem dX8_comes_31 : decode cX8_comes 31 = .ok (.iastore, 1) := dk_79 (dk_at dksX8_comes_1 7 rfl rfl)
theorem dX8_comes_32 : decode cX8_comes 32 = .ok (.iload_n 2, 1) := dk_28 (dk_at dksX8_comes_1 8 rfl rfl)
theorem dX8_comes_33 : decode cX8_comes 33 = .ok (.iconst 1, 1) := dk_4 (dk_at dksX8_comes_1 9 rfl rfl)
theorem dX8_comes_34 : decode cX8_comes 34 = .ok (.iadd, 1) := dk_96 (dk_at dksX8_comes_1 10 rfl rfl)
theorem dX8_comes_35 : decode cX8_comes 35 = .ok (.ireturn, 1) := dk_172 (dk_at dksX8_comes_1 11 rfl rfl)
def dkwX8_placeOf_2 : List UInt8 := [17, 1, 171, 46, 27, 160, 0, 7, 4, 167, 0, 9, 3, 167, 0, 5, 16, 254, 172]
abbrev dktX8_placeOf_2 : List UInt8 := dkwX8_placeOf_2 ++ []
def dkwX8_placeOf_1 : List UInt8 := [17, 1, 150, 6, 27, 104, 96, 28, 96, 46, 167, 0, 30, 28, 6, 160, 0, 23, 42, 180, 0, 9]
abbrev dktX8_placeOf_1 : List UInt8 := dkwX8_placeOf_1 ++ dktX8_placeOf_2
def dkwX8_placeOf_0 : List UInt8 := [27, 184, 0, 190, 154, 0, 5, 2, 172, 28, 3, 5, 184, 0, 56, 153, 0, 20, 42, 180, 0, 9]
abbrev dktX8_placeOf_0 : List UInt8 := dkwX8_placeOf_0 ++ dktX8_placeOf_1
theorem dksX8_placeOf_0 : cX8_placeOf.data.toList.drop 0 = dktX8_placeOf_0 := by decide +kernel
theorem dksX8_placeOf_1 : cX8_placeOf.data.toList.drop 22 = dktX8_placeOf_1 := dk_seg dksX8_placeOf_0 22 rfl rfl
theorem dksX8_placeOf_2 : cX8_placeOf.data.toList.drop 44 = dktX8_placeOf_2 := dk_seg dksX8_placeOf_1 22 rfl rfl
theorem dX8_placeOf_0 : decode cX8_placeOf 0 = .ok (.iload_n 1, 1) := dk_27 (dk_at dksX8_placeOf_0 0 rfl rfl)
theorem dX8_placeOf_1 : decode cX8_placeOf 1 = .ok (.invokestatic 190, 3) := dk_184 0 190 (dk_at dksX8_placeOf_0 1 rfl rfl)
theorem dX8_placeOf_4 : decode cX8_placeOf 4 = .ok (.ifCond .ne 5, 3) := dk_154 0 5 (dk_at dksX8_placeOf_0 4 rfl rfl)
theorem dX8_placeOf_7 : decode cX8_placeOf 7 = .ok (.iconst (-1), 1) := dk_2 (dk_at dksX8_placeOf_0 7 rfl rfl)
theorem dX8_placeOf_8 : decode cX8_placeOf 8 = .ok (.ireturn, 1) := dk_172 (dk_at dksX8_placeOf_0 8 rfl rfl)
theorem dX8_placeOf_9 : decode cX8_placeOf 9 = .ok (.iload_n 2, 1) := dk_28 (dk_at dksX8_placeOf_0 9 rfl rfl)
theorem dX8_placeOf_10 : decode cX8_placeOf 10 = .ok (.iconst 0, 1) := dk_3 (dk_at dksX8_placeOf_0 10 rfl rfl)
theorem dX8_placeOf_11 : decode cX8_placeOf 11 = .ok (.iconst 2, 1) := dk_5 (dk_at dksX8_placeOf_0 11 rfl rfl)
theorem dX8_placeOf_12 : decode cX8_placeOf 12 = .ok (.invokestatic 56, 3) := dk_184 0 56 (dk_at dksX8_placeOf_0 12 rfl rfl)
theorem dX8_placeOf_15 : decode cX8_placeOf 15 = .ok (.ifCond .eq 20, 3) := dk_153 0 20 (dk_at dksX8_placeOf_0 15 rfl rfl)
theorem dX8_placeOf_18 : decode cX8_placeOf 18 = .ok (.aload_n 0, 1) := dk_42 (dk_at dksX8_placeOf_0 18 rfl rfl)
theorem dX8_placeOf_19 : decode cX8_placeOf 19 = .ok (.getfield 9, 3) := dk_180 0 9 (dk_at dksX8_placeOf_0 19 rfl rfl)
theorem dX8_placeOf_22 : decode cX8_placeOf 22 = .ok (.sipush 406, 3) := dk_17 1 150 (dk_at dksX8_placeOf_1 0 rfl rfl)
theorem dX8_placeOf_25 : decode cX8_placeOf 25 = .ok (.iconst 3, 1) := dk_6 (dk_at dksX8_placeOf_1 3 rfl rfl)
theorem dX8_placeOf_26 : decode cX8_placeOf 26 = .ok (.iload_n 1, 1) := dk_27 (dk_at dksX8_placeOf_1 4 rfl rfl)
theorem dX8_placeOf_27 : decode cX8_placeOf 27 = .ok (.imul, 1) := dk_104 (dk_at dksX8_placeOf_1 5 rfl rfl)
theorem dX8_placeOf_28 : decode cX8_placeOf 28 = .ok (.iadd, 1) := dk_96 (dk_at dksX8_placeOf_1 6 rfl rfl)
theorem dX8_placeOf_29 : decode cX8_placeOf 29 = .ok (.iload_n 2, 1) := dk_28 (dk_at dksX8_placeOf_1 7 rfl rfl)
theorem dX8_placeOf_30 : decode cX8_placeOf 30 = .ok (.iadd, 1) := dk_96 (dk_at dksX8_placeOf_1 8 rfl rfl)
theorem dX8_placeOf_31 : decode cX8_placeOf 31 = .ok (.iaload, 1) := dk_46 (dk_at dksX8_placeOf_1 9 rfl rfl)
theorem dX8_placeOf_32 : decode cX8_placeOf 32 = .ok (.goto 30, 3) := dk_167 0 30 (dk_at dksX8_placeOf_1 10 rfl rfl)
theorem dX8_placeOf_35 : decode cX8_placeOf 35 = .ok (.iload_n 2, 1) := dk_28 (dk_at dksX8_placeOf_1 13 rfl rfl)
theorem dX8_placeOf_36 : decode cX8_placeOf 36 = .ok (.iconst 3, 1) := dk_6 (dk_at dksX8_placeOf_1 14 rfl rfl)
theorem dX8_placeOf_37 : decode cX8_placeOf 37 = .ok (.if_icmp .ne 23, 3) := dk_160 0 23 (dk_at dksX8_placeOf_1 15 rfl rfl)
theorem dX8_placeOf_40 : decode cX8_placeOf 40 = .ok (.aload_n 0, 1) := dk_42 (dk_at dksX8_placeOf_1 18 rfl rfl)
theorem dX8_placeOf_41 : decode cX8_placeOf 41 = .ok (.getfield 9, 3) := dk_180 0 9 (dk_at dksX8_placeOf_1 19 rfl rfl)
theorem dX8_placeOf_44 : decode cX8_placeOf 44 = .ok (.sipush 427, 3) := dk_17 1 171 (dk_at dksX8_placeOf_2 0 rfl rfl)
theorem dX8_placeOf_47 : decode cX8_placeOf 47 = .ok (.iaload, 1) := dk_46 (dk_at dksX8_placeOf_2 3 rfl rfl)
theorem dX8_placeOf_48 : decode cX8_placeOf 48 = .ok (.iload_n 1, 1) := dk_27 (dk_at dksX8_placeOf_2 4 rfl rfl)
theorem dX8_placeOf_49 : decode cX8_placeOf 49 = .ok (.if_icmp .ne 7, 3) := dk_160 0 7 (dk_at dksX8_placeOf_2 5 rfl rfl)
theorem dX8_placeOf_52 : decode cX8_placeOf 52 = .ok (.iconst 1, 1) := dk_4 (dk_at dksX8_placeOf_2 8 rfl rfl)
theorem dX8_placeOf_53 : decode cX8_placeOf 53 = .ok (.goto 9, 3) := dk_167 0 9 (dk_at dksX8_placeOf_2 9 rfl rfl)
theorem dX8_placeOf_56 : decode cX8_placeOf 56 = .ok (.iconst 0, 1) := dk_3 (dk_at dksX8_placeOf_2 12 rfl rfl)
theorem dX8_placeOf_57 : decode cX8_placeOf 57 = .ok (.goto 5, 3) := dk_167 0 5 (dk_at dksX8_placeOf_2 13 rfl rfl)
theorem dX8_placeOf_60 : decode cX8_placeOf 60 = .ok (.bipush (-2), 2) := dk_16 254 (dk_at dksX8_placeOf_2 16 rfl rfl)
theorem dX8_placeOf_62 : decode cX8_placeOf 62 = .ok (.ireturn, 1) := dk_172 (dk_at dksX8_placeOf_2 18 rfl rfl)
def dkwX8_pass_0 : List UInt8 := [42, 182, 0, 97, 42, 42, 27, 182, 0, 223, 182, 0, 104, 172]
abbrev dktX8_pass_0 : List UInt8 := dkwX8_pass_0 ++ []
theorem dksX8_pass_0 : cX8_pass.data.toList.drop 0 = dktX8_pass_0 := by decide +kernel
theorem dX8_pass_0 : decode cX8_pass 0 = .ok (.aload_n 0, 1) := dk_42 (dk_at dksX8_pass_0 0 rfl rfl)
theorem dX8_pass_1 : decode cX8_pass 1 = .ok (.invokevirtual 97, 3) := dk_182 0 97 (dk_at dksX8_pass_0 1 rfl rfl)
theorem dX8_pass_4 : decode cX8_pass 4 = .ok (.aload_n 0, 1) := dk_42 (dk_at dksX8_pass_0 4 rfl rfl)
theorem dX8_pass_5 : decode cX8_pass 5 = .ok (.aload_n 0, 1) := dk_42 (dk_at dksX8_pass_0 5 rfl rfl)
theorem dX8_pass_6 : decode cX8_pass 6 = .ok (.iload_n 1, 1) := dk_27 (dk_at dksX8_pass_0 6 rfl rfl)
theorem dX8_pass_7 : decode cX8_pass 7 = .ok (.invokevirtual 223, 3) := dk_182 0 223 (dk_at dksX8_pass_0 7 rfl rfl)
theorem dX8_pass_10 : decode cX8_pass 10 = .ok (.invokevirtual 104, 3) := dk_182 0 104 (dk_at dksX8_pass_0 10 rfl rfl)
theorem dX8_pass_13 : decode cX8_pass 13 = .ok (.ireturn, 1) := dk_172 (dk_at dksX8_pass_0 13 rfl rfl)
def dkwX8_passes_1 : List UInt8 := [182, 0, 219, 96, 61, 132, 3, 1, 167, 255, 241, 28, 172]
abbrev dktX8_passes_1 : List UInt8 := dkwX8_passes_1 ++ []
def dkwX8_passes_0 : List UInt8 := [27, 4, 16, 30, 184, 0, 56, 154, 0, 6, 16, 254, 172, 3, 61, 3, 62, 29, 27, 162, 0, 16, 28, 42]
abbrev dktX8_passes_0 : List UInt8 := dkwX8_passes_0 ++ dktX8_passes_1
theorem dksX8_passes_0 : cX8_passes.data.toList.drop 0 = dktX8_passes_0 := by decide +kernel
theorem dksX8_passes_1 : cX8_passes.data.toList.drop 24 = dktX8_passes_1 := dk_seg dksX8_passes_0 24 rfl rfl
theorem dX8_passes_0 : decode cX8_passes 0 = .ok (.iload_n 1, 1) := dk_27 (dk_at dksX8_passes_0 0 rfl rfl)
theorem dX8_passes_1 : decode cX8_passes 1 = .ok (.iconst 1, 1) := dk_4 (dk_at dksX8_passes_0 1 rfl rfl)
theorem dX8_passes_2 : decode cX8_passes 2 = .ok (.bipush 30, 2) := dk_16 30 (dk_at dksX8_passes_0 2 rfl rfl)
theorem dX8_passes_4 : decode cX8_passes 4 = .ok (.invokestatic 56, 3) := dk_184 0 56 (dk_at dksX8_passes_0 4 rfl rfl)
theorem dX8_passes_7 : decode cX8_passes 7 = .ok (.ifCond .ne 6, 3) := dk_154 0 6 (dk_at dksX8_passes_0 7 rfl rfl)
theorem dX8_passes_10 : decode cX8_passes 10 = .ok (.bipush (-2), 2) := dk_16 254 (dk_at dksX8_passes_0 10 rfl rfl)
theorem dX8_passes_12 : decode cX8_passes 12 = .ok (.ireturn, 1) := dk_172 (dk_at dksX8_passes_0 12 rfl rfl)
theorem dX8_passes_13 : decode cX8_passes 13 = .ok (.iconst 0, 1) := dk_3 (dk_at dksX8_passes_0 13 rfl rfl)
theorem dX8_passes_14 : decode cX8_passes 14 = .ok (.istore_n 2, 1) := dk_61 (dk_at dksX8_passes_0 14 rfl rfl)
theorem dX8_passes_15 : decode cX8_passes 15 = .ok (.iconst 0, 1) := dk_3 (dk_at dksX8_passes_0 15 rfl rfl)
theorem dX8_passes_16 : decode cX8_passes 16 = .ok (.istore_n 3, 1) := dk_62 (dk_at dksX8_passes_0 16 rfl rfl)
theorem dX8_passes_17 : decode cX8_passes 17 = .ok (.iload_n 3, 1) := dk_29 (dk_at dksX8_passes_0 17 rfl rfl)
theorem dX8_passes_18 : decode cX8_passes 18 = .ok (.iload_n 1, 1) := dk_27 (dk_at dksX8_passes_0 18 rfl rfl)
theorem dX8_passes_19 : decode cX8_passes 19 = .ok (.if_icmp .ge 16, 3) := dk_162 0 16 (dk_at dksX8_passes_0 19 rfl rfl)
theorem dX8_passes_22 : decode cX8_passes 22 = .ok (.iload_n 2, 1) := dk_28 (dk_at dksX8_passes_0 22 rfl rfl)
theorem dX8_passes_23 : decode cX8_passes 23 = .ok (.aload_n 0, 1) := dk_42 (dk_at dksX8_passes_0 23 rfl rfl)
theorem dX8_passes_24 : decode cX8_passes 24 = .ok (.invokevirtual 219, 3) := dk_182 0 219 (dk_at dksX8_passes_1 0 rfl rfl)
theorem dX8_passes_27 : decode cX8_passes 27 = .ok (.iadd, 1) := dk_96 (dk_at dksX8_passes_1 3 rfl rfl)
theorem dX8_passes_28 : decode cX8_passes 28 = .ok (.istore_n 2, 1) := dk_61 (dk_at dksX8_passes_1 4 rfl rfl)
theorem dX8_passes_29 : decode cX8_passes 29 = .ok (.iinc 3 1, 3) := dk_132 3 1 (dk_at dksX8_passes_1 5 rfl rfl)
theorem dX8_passes_32 : decode cX8_passes 32 = .ok (.goto (-15), 3) := dk_167 255 241 (dk_at dksX8_passes_1 8 rfl rfl)
theorem dX8_passes_35 : decode cX8_passes 35 = .ok (.iload_n 2, 1) := dk_28 (dk_at dksX8_passes_1 11 rfl rfl)
theorem dX8_passes_36 : decode cX8_passes 36 = .ok (.ireturn, 1) := dk_172 (dk_at dksX8_passes_1 12 rfl rfl)
def dkwX8_day_3 : List UInt8 := [17, 1, 172, 92, 46, 4, 96, 79, 27, 172]
abbrev dktX8_day_3 : List UInt8 := dkwX8_day_3 ++ []
def dkwX8_day_2 : List UInt8 := [180, 0, 9, 3, 46, 162, 0, 14, 42, 28, 182, 0, 216, 132, 2, 1, 167, 255, 238, 42, 180, 0, 9]
abbrev dktX8_day_2 : List UInt8 := dkwX8_day_2 ++ dktX8_day_3
def dkwX8_day_1 : List UInt8 := [61, 28, 16, 7, 162, 0, 14, 42, 28, 182, 0, 213, 132, 2, 1, 167, 255, 242, 3, 61, 28, 42]
abbrev dktX8_day_1 : List UInt8 := dkwX8_day_1 ++ dktX8_day_2
def dkwX8_day_0 : List UInt8 := [3, 60, 3, 61, 28, 5, 162, 0, 17, 27, 42, 28, 182, 0, 210, 96, 60, 132, 2, 1, 167, 255, 240, 3]
abbrev dktX8_day_0 : List UInt8 := dkwX8_day_0 ++ dktX8_day_1
theorem dksX8_day_0 : cX8_day.data.toList.drop 0 = dktX8_day_0 := by decide +kernel
theorem dksX8_day_1 : cX8_day.data.toList.drop 24 = dktX8_day_1 := dk_seg dksX8_day_0 24 rfl rfl
theorem dksX8_day_2 : cX8_day.data.toList.drop 46 = dktX8_day_2 := dk_seg dksX8_day_1 22 rfl rfl
theorem dksX8_day_3 : cX8_day.data.toList.drop 69 = dktX8_day_3 := dk_seg dksX8_day_2 23 rfl rfl
theorem dX8_day_0 : decode cX8_day 0 = .ok (.iconst 0, 1) := dk_3 (dk_at dksX8_day_0 0 rfl rfl)
theorem dX8_day_1 : decode cX8_day 1 = .ok (.istore_n 1, 1) := dk_60 (dk_at dksX8_day_0 1 rfl rfl)
theorem dX8_day_2 : decode cX8_day 2 = .ok (.iconst 0, 1) := dk_3 (dk_at dksX8_day_0 2 rfl rfl)
theorem dX8_day_3 : decode cX8_day 3 = .ok (.istore_n 2, 1) := dk_61 (dk_at dksX8_day_0 3 rfl rfl)
theorem dX8_day_4 : decode cX8_day 4 = .ok (.iload_n 2, 1) := dk_28 (dk_at dksX8_day_0 4 rfl rfl)
theorem dX8_day_5 : decode cX8_day 5 = .ok (.iconst 2, 1) := dk_5 (dk_at dksX8_day_0 5 rfl rfl)
theorem dX8_day_6 : decode cX8_day 6 = .ok (.if_icmp .ge 17, 3) := dk_162 0 17 (dk_at dksX8_day_0 6 rfl rfl)
theorem dX8_day_9 : decode cX8_day 9 = .ok (.iload_n 1, 1) := dk_27 (dk_at dksX8_day_0 9 rfl rfl)
theorem dX8_day_10 : decode cX8_day 10 = .ok (.aload_n 0, 1) := dk_42 (dk_at dksX8_day_0 10 rfl rfl)
theorem dX8_day_11 : decode cX8_day 11 = .ok (.iload_n 2, 1) := dk_28 (dk_at dksX8_day_0 11 rfl rfl)
theorem dX8_day_12 : decode cX8_day 12 = .ok (.invokevirtual 210, 3) := dk_182 0 210 (dk_at dksX8_day_0 12 rfl rfl)
theorem dX8_day_15 : decode cX8_day 15 = .ok (.iadd, 1) := dk_96 (dk_at dksX8_day_0 15 rfl rfl)
theorem dX8_day_16 : decode cX8_day 16 = .ok (.istore_n 1, 1) := dk_60 (dk_at dksX8_day_0 16 rfl rfl)
theorem dX8_day_17 : decode cX8_day 17 = .ok (.iinc 2 1, 3) := dk_132 2 1 (dk_at dksX8_day_0 17 rfl rfl)
theorem dX8_day_20 : decode cX8_day 20 = .ok (.goto (-16), 3) := dk_167 255 240 (dk_at dksX8_day_0 20 rfl rfl)
theorem dX8_day_23 : decode cX8_day 23 = .ok (.iconst 0, 1) := dk_3 (dk_at dksX8_day_0 23 rfl rfl)
theorem dX8_day_24 : decode cX8_day 24 = .ok (.istore_n 2, 1) := dk_61 (dk_at dksX8_day_1 0 rfl rfl)
theorem dX8_day_25 : decode cX8_day 25 = .ok (.iload_n 2, 1) := dk_28 (dk_at dksX8_day_1 1 rfl rfl)
theorem dX8_day_26 : decode cX8_day 26 = .ok (.bipush 7, 2) := dk_16 7 (dk_at dksX8_day_1 2 rfl rfl)
theorem dX8_day_28 : decode cX8_day 28 = .ok (.if_icmp .ge 14, 3) := dk_162 0 14 (dk_at dksX8_day_1 4 rfl rfl)
theorem dX8_day_31 : decode cX8_day 31 = .ok (.aload_n 0, 1) := dk_42 (dk_at dksX8_day_1 7 rfl rfl)
theorem dX8_day_32 : decode cX8_day 32 = .ok (.iload_n 2, 1) := dk_28 (dk_at dksX8_day_1 8 rfl rfl)
theorem dX8_day_33 : decode cX8_day 33 = .ok (.invokevirtual 213, 3) := dk_182 0 213 (dk_at dksX8_day_1 9 rfl rfl)
theorem dX8_day_36 : decode cX8_day 36 = .ok (.iinc 2 1, 3) := dk_132 2 1 (dk_at dksX8_day_1 12 rfl rfl)
theorem dX8_day_39 : decode cX8_day 39 = .ok (.goto (-14), 3) := dk_167 255 242 (dk_at dksX8_day_1 15 rfl rfl)
theorem dX8_day_42 : decode cX8_day 42 = .ok (.iconst 0, 1) := dk_3 (dk_at dksX8_day_1 18 rfl rfl)
theorem dX8_day_43 : decode cX8_day 43 = .ok (.istore_n 2, 1) := dk_61 (dk_at dksX8_day_1 19 rfl rfl)
theorem dX8_day_44 : decode cX8_day 44 = .ok (.iload_n 2, 1) := dk_28 (dk_at dksX8_day_1 20 rfl rfl)
theorem dX8_day_45 : decode cX8_day 45 = .ok (.aload_n 0, 1) := dk_42 (dk_at dksX8_day_1 21 rfl rfl)
theorem dX8_day_46 : decode cX8_day 46 = .ok (.getfield 9, 3) := dk_180 0 9 (dk_at dksX8_day_2 0 rfl rfl)
theorem dX8_day_49 : decode cX8_day 49 = .ok (.iconst 0, 1) := dk_3 (dk_at dksX8_day_2 3 rfl rfl)
theorem dX8_day_50 : decode cX8_day 50 = .ok (.iaload, 1) := dk_46 (dk_at dksX8_day_2 4 rfl rfl)
theorem dX8_day_51 : decode cX8_day 51 = .ok (.if_icmp .ge 14, 3) := dk_162 0 14 (dk_at dksX8_day_2 5 rfl rfl)
theorem dX8_day_54 : decode cX8_day 54 = .ok (.aload_n 0, 1) := dk_42 (dk_at dksX8_day_2 8 rfl rfl)
theorem dX8_day_55 : decode cX8_day 55 = .ok (.iload_n 2, 1) := dk_28 (dk_at dksX8_day_2 9 rfl rfl)
theorem dX8_day_56 : decode cX8_day 56 = .ok (.invokevirtual 216, 3) := dk_182 0 216 (dk_at dksX8_day_2 10 rfl rfl)
theorem dX8_day_59 : decode cX8_day 59 = .ok (.iinc 2 1, 3) := dk_132 2 1 (dk_at dksX8_day_2 13 rfl rfl)
theorem dX8_day_62 : decode cX8_day 62 = .ok (.goto (-18), 3) := dk_167 255 238 (dk_at dksX8_day_2 16 rfl rfl)
theorem dX8_day_65 : decode cX8_day 65 = .ok (.aload_n 0, 1) := dk_42 (dk_at dksX8_day_2 19 rfl rfl)
theorem dX8_day_66 : decode cX8_day 66 = .ok (.getfield 9, 3) := dk_180 0 9 (dk_at dksX8_day_2 20 rfl rfl)
theorem dX8_day_69 : decode cX8_day 69 = .ok (.sipush 428, 3) := dk_17 1 172 (dk_at dksX8_day_3 0 rfl rfl)
theorem dX8_day_72 : decode cX8_day 72 = .ok (.dup2, 1) := dk_92 (dk_at dksX8_day_3 3 rfl rfl)
theorem dX8_day_73 : decode cX8_day 73 = .ok (.iaload, 1) := dk_46 (dk_at dksX8_day_3 4 rfl rfl)
theorem dX8_day_74 : decode cX8_day 74 = .ok (.iconst 1, 1) := dk_4 (dk_at dksX8_day_3 5 rfl rfl)
theorem dX8_day_75 : decode cX8_day 75 = .ok (.iadd, 1) := dk_96 (dk_at dksX8_day_3 6 rfl rfl)
theorem dX8_day_76 : decode cX8_day 76 = .ok (.iastore, 1) := dk_79 (dk_at dksX8_day_3 7 rfl rfl)
theorem dX8_day_77 : decode cX8_day 77 = .ok (.iload_n 1, 1) := dk_27 (dk_at dksX8_day_3 8 rfl rfl)
theorem dX8_day_78 : decode cX8_day 78 = .ok (.ireturn, 1) := dk_172 (dk_at dksX8_day_3 9 rfl rfl)
def dkwX8_threshedOn_5 : List UInt8 := [184, 0, 134, 104, 96, 79, 21, 4, 172]
abbrev dktX8_threshedOn_5 : List UInt8 := dkwX8_threshedOn_5 ++ []
def dkwX8_threshedOn_4 : List UInt8 := [184, 0, 134, 104, 96, 79, 42, 180, 0, 9, 17, 1, 135, 8, 28, 104, 96, 7, 96, 92, 46, 21, 4, 28]
abbrev dktX8_threshedOn_4 : List UInt8 := dkwX8_threshedOn_4 ++ dktX8_threshedOn_5
def dkwX8_threshedOn_3 : List UInt8 := [6, 96, 92, 46, 21, 4, 96, 79, 42, 180, 0, 9, 17, 1, 135, 8, 28, 104, 96, 92, 46, 21, 4, 28]
abbrev dktX8_threshedOn_3 : List UInt8 := dkwX8_threshedOn_3 ++ dktX8_threshedOn_4
def dkwX8_threshedOn_2 : List UInt8 := [17, 1, 127, 7, 27, 104, 96, 92, 46, 21, 4, 100, 79, 42, 180, 0, 9, 17, 1, 127, 7, 27, 104, 96]
abbrev dktX8_threshedOn_2 : List UInt8 := dkwX8_threshedOn_2 ++ dktX8_threshedOn_3
def dkwX8_threshedOn_1 : List UInt8 := [42, 27, 5, 182, 0, 165, 42, 27, 3, 182, 0, 165, 184, 0, 199, 184, 0, 199, 54, 4, 42, 180, 0, 9]
abbrev dktX8_threshedOn_1 : List UInt8 := dkwX8_threshedOn_1 ++ dktX8_threshedOn_2
def dkwX8_threshedOn_0 : List UInt8 := [42, 27, 4, 182, 0, 165, 61, 17, 7, 208, 42, 28, 3, 182, 0, 178, 100, 28, 184, 0, 134, 108, 62, 29]
abbrev dktX8_threshedOn_0 : List UInt8 := dkwX8_threshedOn_0 ++ dktX8_threshedOn_1
theorem dksX8_threshedOn_0 : cX8_threshedOn.data.toList.drop 0 = dktX8_threshedOn_0 := by decide +kernel
theorem dksX8_threshedOn_1 : cX8_threshedOn.data.toList.drop 24 = dktX8_threshedOn_1 := dk_seg dksX8_threshedOn_0 24 rfl rfl
theorem dksX8_threshedOn_2 : cX8_threshedOn.data.toList.drop 48 = dktX8_threshedOn_2 := dk_seg dksX8_threshedOn_1 24 rfl rfl
theorem dksX8_threshedOn_3 : cX8_threshedOn.data.toList.drop 72 = dktX8_threshedOn_3 := dk_seg dksX8_threshedOn_2 24 rfl rfl
theorem dksX8_threshedOn_4 : cX8_threshedOn.data.toList.drop 96 = dktX8_threshedOn_4 := dk_seg dksX8_threshedOn_3 24 rfl rfl
theorem dksX8_threshedOn_5 : cX8_threshedOn.data.toList.drop 120 = dktX8_threshedOn_5 := dk_seg dksX8_threshedOn_4 24 rfl rfl
theorem dX8_threshedOn_0 : decode cX8_threshedOn 0 = .ok (.aload_n 0, 1) := dk_42 (dk_at dksX8_threshedOn_0 0 rfl rfl)
theorem dX8_threshedOn_1 : decode cX8_threshedOn 1 = .ok (.iload_n 1, 1) := dk_27 (dk_at dksX8_threshedOn_0 1 rfl rfl)
theorem dX8_threshedOn_2 : decode cX8_threshedOn 2 = .ok (.iconst 1, 1) := dk_4 (dk_at dksX8_threshedOn_0 2 rfl rfl)
theorem dX8_threshedOn_3 : decode cX8_threshedOn 3 = .ok (.invokevirtual 165, 3) := dk_182 0 165 (dk_at dksX8_threshedOn_0 3 rfl rfl)
theorem dX8_threshedOn_6 : decode cX8_threshedOn 6 = .ok (.istore_n 2, 1) := dk_61 (dk_at dksX8_threshedOn_0 6 rfl rfl)
theorem dX8_threshedOn_7 : decode cX8_threshedOn 7 = .ok (.sipush 2000, 3) := dk_17 7 208 (dk_at dksX8_threshedOn_0 7 rfl rfl)
theorem dX8_threshedOn_10 : decode cX8_threshedOn 10 = .ok (.aload_n 0, 1) := dk_42 (dk_at dksX8_threshedOn_0 10 rfl rfl)
theorem dX8_threshedOn_11 : decode cX8_threshedOn 11 = .ok (.iload_n 2, 1) := dk_28 (dk_at dksX8_threshedOn_0 11 rfl rfl)
theorem dX8_threshedOn_12 : decode cX8_threshedOn 12 = .ok (.iconst 0, 1) := dk_3 (dk_at dksX8_threshedOn_0 12 rfl rfl)
theorem dX8_threshedOn_13 : decode cX8_threshedOn 13 = .ok (.invokevirtual 178, 3) := dk_182 0 178 (dk_at dksX8_threshedOn_0 13 rfl rfl)
theorem dX8_threshedOn_16 : decode cX8_threshedOn 16 = .ok (.isub, 1) := dk_100 (dk_at dksX8_threshedOn_0 16 rfl rfl)
theorem dX8_threshedOn_17 : decode cX8_threshedOn 17 = .ok (.iload_n 2, 1) := dk_28 (dk_at dksX8_threshedOn_0 17 rfl rfl)
theorem dX8_threshedOn_18 : decode cX8_threshedOn 18 = .ok (.invokestatic 134, 3) := dk_184 0 134 (dk_at dksX8_threshedOn_0 18 rfl rfl)
theorem dX8_threshedOn_21 : decode cX8_threshedOn 21 = .ok (.idiv, 1) := dk_108 (dk_at dksX8_threshedOn_0 21 rfl rfl)
theorem dX8_threshedOn_22 : decode cX8_threshedOn 22 = .ok (.istore_n 3, 1) := dk_62 (dk_at dksX8_threshedOn_0 22 rfl rfl)
theorem dX8_threshedOn_23 : decode cX8_threshedOn 23 = .ok (.iload_n 3, 1) := dk_29 (dk_at dksX8_threshedOn_0 23 rfl rfl)
theorem dX8_threshedOn_24 : decode cX8_threshedOn 24 = .ok (.aload_n 0, 1) := dk_42 (dk_at dksX8_threshedOn_1 0 rfl rfl)
theorem dX8_threshedOn_25 : decode cX8_threshedOn 25 = .ok (.iload_n 1, 1) := dk_27 (dk_at dksX8_threshedOn_1 1 rfl rfl)
theorem dX8_threshedOn_26 : decode cX8_threshedOn 26 = .ok (.iconst 2, 1) := dk_5 (dk_at dksX8_threshedOn_1 2 rfl rfl)
theorem dX8_threshedOn_27 : decode cX8_threshedOn 27 = .ok (.invokevirtual 165, 3) := dk_182 0 165 (dk_at dksX8_threshedOn_1 3 rfl rfl)
theorem dX8_threshedOn_30 : decode cX8_threshedOn 30 = .ok (.aload_n 0, 1) := dk_42 (dk_at dksX8_threshedOn_1 6 rfl rfl)
theorem dX8_threshedOn_31 : decode cX8_threshedOn 31 = .ok (.iload_n 1, 1) := dk_27 (dk_at dksX8_threshedOn_1 7 rfl rfl)
theorem dX8_threshedOn_32 : decode cX8_threshedOn 32 = .ok (.iconst 0, 1) := dk_3 (dk_at dksX8_threshedOn_1 8 rfl rfl)
theorem dX8_threshedOn_33 : decode cX8_threshedOn 33 = .ok (.invokevirtual 165, 3) := dk_182 0 165 (dk_at dksX8_threshedOn_1 9 rfl rfl)
theorem dX8_threshedOn_36 : decode cX8_threshedOn 36 = .ok (.invokestatic 199, 3) := dk_184 0 199 (dk_at dksX8_threshedOn_1 12 rfl rfl)
theorem dX8_threshedOn_39 : decode cX8_threshedOn 39 = .ok (.invokestatic 199, 3) := dk_184 0 199 (dk_at dksX8_threshedOn_1 15 rfl rfl)
theorem dX8_threshedOn_42 : decode cX8_threshedOn 42 = .ok (.istore 4, 2) := dk_54 4 (dk_at dksX8_threshedOn_1 18 rfl rfl)
theorem dX8_threshedOn_44 : decode cX8_threshedOn 44 = .ok (.aload_n 0, 1) := dk_42 (dk_at dksX8_threshedOn_1 20 rfl rfl)
theorem dX8_threshedOn_45 : decode cX8_threshedOn 45 = .ok (.getfield 9, 3) := dk_180 0 9 (dk_at dksX8_threshedOn_1 21 rfl rfl)
theorem dX8_threshedOn_48 : decode cX8_threshedOn 48 = .ok (.sipush 383, 3) := dk_17 1 127 (dk_at dksX8_threshedOn_2 0 rfl rfl)
theorem dX8_threshedOn_51 : decode cX8_threshedOn 51 = .ok (.iconst 4, 1) := dk_7 (dk_at dksX8_threshedOn_2 3 rfl rfl)
theorem dX8_threshedOn_52 : decode cX8_threshedOn 52 = .ok (.iload_n 1, 1) := dk_27 (dk_at dksX8_threshedOn_2 4 rfl rfl)
theorem dX8_threshedOn_53 : decode cX8_threshedOn 53 = .ok (.imul, 1) := dk_104 (dk_at dksX8_threshedOn_2 5 rfl rfl)
theorem dX8_threshedOn_54 : decode cX8_threshedOn 54 = .ok (.iadd, 1) := dk_96 (dk_at dksX8_threshedOn_2 6 rfl rfl)
theorem dX8_threshedOn_55 : decode cX8_threshedOn 55 = .ok (.dup2, 1) := dk_92 (dk_at dksX8_threshedOn_2 7 rfl rfl)
theorem dX8_threshedOn_56 : decode cX8_threshedOn 56 = .ok (.iaload, 1) := dk_46 (dk_at dksX8_threshedOn_2 8 rfl rfl)
theorem dX8_threshedOn_57 : decode cX8_threshedOn 57 = .ok (.iload 4, 2) := dk_21 4 (dk_at dksX8_threshedOn_2 9 rfl rfl)
theorem dX8_threshedOn_59 : decode cX8_threshedOn 59 = .ok (.isub, 1) := dk_100 (dk_at dksX8_threshedOn_2 11 rfl rfl)
theorem dX8_threshedOn_60 : decode cX8_threshedOn 60 = .ok (.iastore, 1) := dk_79 (dk_at dksX8_threshedOn_2 12 rfl rfl)
theorem dX8_threshedOn_61 : decode cX8_threshedOn 61 = .ok (.aload_n 0, 1) := dk_42 (dk_at dksX8_threshedOn_2 13 rfl rfl)
theorem dX8_threshedOn_62 : decode cX8_threshedOn 62 = .ok (.getfield 9, 3) := dk_180 0 9 (dk_at dksX8_threshedOn_2 14 rfl rfl)
theorem dX8_threshedOn_65 : decode cX8_threshedOn 65 = .ok (.sipush 383, 3) := dk_17 1 127 (dk_at dksX8_threshedOn_2 17 rfl rfl)
theorem dX8_threshedOn_68 : decode cX8_threshedOn 68 = .ok (.iconst 4, 1) := dk_7 (dk_at dksX8_threshedOn_2 20 rfl rfl)
theorem dX8_threshedOn_69 : decode cX8_threshedOn 69 = .ok (.iload_n 1, 1) := dk_27 (dk_at dksX8_threshedOn_2 21 rfl rfl)
theorem dX8_threshedOn_70 : decode cX8_threshedOn 70 = .ok (.imul, 1) := dk_104 (dk_at dksX8_threshedOn_2 22 rfl rfl)
theorem dX8_threshedOn_71 : decode cX8_threshedOn 71 = .ok (.iadd, 1) := dk_96 (dk_at dksX8_threshedOn_2 23 rfl rfl)
theorem dX8_threshedOn_72 : decode cX8_threshedOn 72 = .ok (.iconst 3, 1) := dk_6 (dk_at dksX8_threshedOn_3 0 rfl rfl)
theorem dX8_threshedOn_73 : decode cX8_threshedOn 73 = .ok (.iadd, 1) := dk_96 (dk_at dksX8_threshedOn_3 1 rfl rfl)
theorem dX8_threshedOn_74 : decode cX8_threshedOn 74 = .ok (.dup2, 1) := dk_92 (dk_at dksX8_threshedOn_3 2 rfl rfl)
theorem dX8_threshedOn_75 : decode cX8_threshedOn 75 = .ok (.iaload, 1) := dk_46 (dk_at dksX8_threshedOn_3 3 rfl rfl)
theorem dX8_threshedOn_76 : decode cX8_threshedOn 76 = .ok (.iload 4, 2) := dk_21 4 (dk_at dksX8_threshedOn_3 4 rfl rfl)
theorem dX8_threshedOn_78 : decode cX8_threshedOn 78 = .ok (.iadd, 1) := dk_96 (dk_at dksX8_threshedOn_3 6 rfl rfl)
theorem dX8_threshedOn_79 : decode cX8_threshedOn 79 = .ok (.iastore, 1) := dk_79 (dk_at dksX8_threshedOn_3 7 rfl rfl)
theorem dX8_threshedOn_80 : decode cX8_threshedOn 80 = .ok (.aload_n 0, 1) := dk_42 (dk_at dksX8_threshedOn_3 8 rfl rfl)
theorem dX8_threshedOn_81 : decode cX8_threshedOn 81 = .ok (.getfield 9, 3) := dk_180 0 9 (dk_at dksX8_threshedOn_3 9 rfl rfl)
theorem dX8_threshedOn_84 : decode cX8_threshedOn 84 = .ok (.sipush 391, 3) := dk_17 1 135 (dk_at dksX8_threshedOn_3 12 rfl rfl)
theorem dX8_threshedOn_87 : decode cX8_threshedOn 87 = .ok (.iconst 5, 1) := dk_8 (dk_at dksX8_threshedOn_3 15 rfl rfl)
theorem dX8_threshedOn_88 : decode cX8_threshedOn 88 = .ok (.iload_n 2, 1) := dk_28 (dk_at dksX8_threshedOn_3 16 rfl rfl)
theorem dX8_threshedOn_89 : decode cX8_threshedOn 89 = .ok (.imul, 1) := dk_104 (dk_at dksX8_threshedOn_3 17 rfl rfl)
theorem dX8_threshedOn_90 : decode cX8_threshedOn 90 = .ok (.iadd, 1) := dk_96 (dk_at dksX8_threshedOn_3 18 rfl rfl)
theorem dX8_threshedOn_91 : decode cX8_threshedOn 91 = .ok (.dup2, 1) := dk_92 (dk_at dksX8_threshedOn_3 19 rfl rfl)
theorem dX8_threshedOn_92 : decode cX8_threshedOn 92 = .ok (.iaload, 1) := dk_46 (dk_at dksX8_threshedOn_3 20 rfl rfl)
theorem dX8_threshedOn_93 : decode cX8_threshedOn 93 = .ok (.iload 4, 2) := dk_21 4 (dk_at dksX8_threshedOn_3 21 rfl rfl)
theorem dX8_threshedOn_95 : decode cX8_threshedOn 95 = .ok (.iload_n 2, 1) := dk_28 (dk_at dksX8_threshedOn_3 23 rfl rfl)
theorem dX8_threshedOn_96 : decode cX8_threshedOn 96 = .ok (.invokestatic 134, 3) := dk_184 0 134 (dk_at dksX8_threshedOn_4 0 rfl rfl)
theorem dX8_threshedOn_99 : decode cX8_threshedOn 99 = .ok (.imul, 1) := dk_104 (dk_at dksX8_threshedOn_4 3 rfl rfl)
theorem dX8_threshedOn_100 : decode cX8_threshedOn 100 = .ok (.iadd, 1) := dk_96 (dk_at dksX8_threshedOn_4 4 rfl rfl)
theorem dX8_threshedOn_101 : decode cX8_threshedOn 101 = .ok (.iastore, 1) := dk_79 (dk_at dksX8_threshedOn_4 5 rfl rfl)
theorem dX8_threshedOn_102 : decode cX8_threshedOn 102 = .ok (.aload_n 0, 1) := dk_42 (dk_at dksX8_threshedOn_4 6 rfl rfl)
theorem dX8_threshedOn_103 : decode cX8_threshedOn 103 = .ok (.getfield 9, 3) := dk_180 0 9 (dk_at dksX8_threshedOn_4 7 rfl rfl)
theorem dX8_threshedOn_106 : decode cX8_threshedOn 106 = .ok (.sipush 391, 3) := dk_17 1 135 (dk_at dksX8_threshedOn_4 10 rfl rfl)
theorem dX8_threshedOn_109 : decode cX8_threshedOn 109 = .ok (.iconst 5, 1) := dk_8 (dk_at dksX8_threshedOn_4 13 rfl rfl)
theorem dX8_threshedOn_110 : decode cX8_threshedOn 110 = .ok (.iload_n 2, 1) := dk_28 (dk_at dksX8_threshedOn_4 14 rfl rfl)
theorem dX8_threshedOn_111 : decode cX8_threshedOn 111 = .ok (.imul, 1) := dk_104 (dk_at dksX8_threshedOn_4 15 rfl rfl)
theorem dX8_threshedOn_112 : decode cX8_threshedOn 112 = .ok (.iadd, 1) := dk_96 (dk_at dksX8_threshedOn_4 16 rfl rfl)
theorem dX8_threshedOn_113 : decode cX8_threshedOn 113 = .ok (.iconst 4, 1) := dk_7 (dk_at dksX8_threshedOn_4 17 rfl rfl)
theorem dX8_threshedOn_114 : decode cX8_threshedOn 114 = .ok (.iadd, 1) := dk_96 (dk_at dksX8_threshedOn_4 18 rfl rfl)
theorem dX8_threshedOn_115 : decode cX8_threshedOn 115 = .ok (.dup2, 1) := dk_92 (dk_at dksX8_threshedOn_4 19 rfl rfl)
theorem dX8_threshedOn_116 : decode cX8_threshedOn 116 = .ok (.iaload, 1) := dk_46 (dk_at dksX8_threshedOn_4 20 rfl rfl)
theorem dX8_threshedOn_117 : decode cX8_threshedOn 117 = .ok (.iload 4, 2) := dk_21 4 (dk_at dksX8_threshedOn_4 21 rfl rfl)
theorem dX8_threshedOn_119 : decode cX8_threshedOn 119 = .ok (.iload_n 2, 1) := dk_28 (dk_at dksX8_threshedOn_4 23 rfl rfl)
theorem dX8_threshedOn_120 : decode cX8_threshedOn 120 = .ok (.invokestatic 134, 3) := dk_184 0 134 (dk_at dksX8_threshedOn_5 0 rfl rfl)
theorem dX8_threshedOn_123 : decode cX8_threshedOn 123 = .ok (.imul, 1) := dk_104 (dk_at dksX8_threshedOn_5 3 rfl rfl)
theorem dX8_threshedOn_124 : decode cX8_threshedOn 124 = .ok (.iadd, 1) := dk_96 (dk_at dksX8_threshedOn_5 4 rfl rfl)
theorem dX8_threshedOn_125 : decode cX8_threshedOn 125 = .ok (.iastore, 1) := dk_79 (dk_at dksX8_threshedOn_5 5 rfl rfl)
theorem dX8_threshedOn_126 : decode cX8_threshedOn 126 = .ok (.iload 4, 2) := dk_21 4 (dk_at dksX8_threshedOn_5 6 rfl rfl)
theorem dX8_threshedOn_128 : decode cX8_threshedOn 128 = .ok (.ireturn, 1) := dk_172 (dk_at dksX8_threshedOn_5 8 rfl rfl)
def dkwX8_eats_6 : List UInt8 := [180, 0, 9, 28, 4, 96, 16, 50, 42, 180, 0, 9, 28, 4, 96, 46, 184, 0, 199, 79, 177]
abbrev dktX8_eats_6 : List UInt8 := dkwX8_eats_6 ++ []
def dkwX8_eats_5 : List UInt8 := [160, 0, 18, 42, 180, 0, 9, 28, 4, 96, 46, 4, 96, 5, 108, 167, 0, 4, 3, 100, 79, 42]
abbrev dktX8_eats_5 : List UInt8 := dkwX8_eats_5 ++ dktX8_eats_6
def dkwX8_eats_4 : List UInt8 := [108, 116, 96, 79, 42, 180, 0, 9, 28, 4, 96, 92, 46, 42, 180, 0, 9, 17, 1, 171, 46, 27]
abbrev dktX8_eats_4 : List UInt8 := dkwX8_eats_4 ++ dktX8_eats_5
def dkwX8_eats_3 : List UInt8 := [29, 158, 0, 12, 42, 180, 0, 9, 28, 46, 167, 0, 16, 42, 180, 0, 9, 28, 4, 96, 46, 4, 96, 5]
abbrev dktX8_eats_3 : List UInt8 := dkwX8_eats_3 ++ dktX8_eats_4
def dkwX8_eats_2 : List UInt8 := [182, 0, 128, 167, 0, 11, 42, 27, 7, 100, 3, 182, 0, 178, 62, 42, 180, 0, 9, 28, 4, 96, 92, 46]
abbrev dktX8_eats_2 : List UInt8 := dkwX8_eats_2 ++ dktX8_eats_3
def dkwX8_eats_1 : List UInt8 := [182, 0, 204, 167, 0, 10, 42, 27, 7, 100, 182, 0, 207, 96, 79, 27, 7, 162, 0, 11, 42, 27]
abbrev dktX8_eats_1 : List UInt8 := dkwX8_eats_1 ++ dktX8_eats_2
def dkwX8_eats_0 : List UInt8 := [17, 1, 150, 6, 27, 104, 96, 61, 42, 180, 0, 9, 28, 5, 96, 92, 46, 27, 7, 162, 0, 11, 42, 27]
abbrev dktX8_eats_0 : List UInt8 := dkwX8_eats_0 ++ dktX8_eats_1
theorem dksX8_eats_0 : cX8_eats.data.toList.drop 0 = dktX8_eats_0 := by decide +kernel
theorem dksX8_eats_1 : cX8_eats.data.toList.drop 24 = dktX8_eats_1 := dk_seg dksX8_eats_0 24 rfl rfl
theorem dksX8_eats_2 : cX8_eats.data.toList.drop 46 = dktX8_eats_2 := dk_seg dksX8_eats_1 22 rfl rfl
theorem dksX8_eats_3 : cX8_eats.data.toList.drop 70 = dktX8_eats_3 := dk_seg dksX8_eats_2 24 rfl rfl
theorem dksX8_eats_4 : cX8_eats.data.toList.drop 94 = dktX8_eats_4 := dk_seg dksX8_eats_3 24 rfl rfl
theorem dksX8_eats_5 : cX8_eats.data.toList.drop 116 = dktX8_eats_5 := dk_seg dksX8_eats_4 22 rfl rfl
theorem dksX8_eats_6 : cX8_eats.data.toList.drop 138 = dktX8_eats_6 := dk_seg dksX8_eats_5 22 rfl rfl
theorem dX8_eats_0 : decode cX8_eats 0 = .ok (.sipush 406, 3) := dk_17 1 150 (dk_at dksX8_eats_0 0 rfl rfl)
theorem dX8_eats_3 : decode cX8_eats 3 = .ok (.iconst 3, 1) := dk_6 (dk_at dksX8_eats_0 3 rfl rfl)
theorem dX8_eats_4 : decode cX8_eats 4 = .ok (.iload_n 1, 1) := dk_27 (dk_at dksX8_eats_0 4 rfl rfl)
theorem dX8_eats_5 : decode cX8_eats 5 = .ok (.imul, 1) := dk_104 (dk_at dksX8_eats_0 5 rfl rfl)
theorem dX8_eats_6 : decode cX8_eats 6 = .ok (.iadd, 1) := dk_96 (dk_at dksX8_eats_0 6 rfl rfl)
theorem dX8_eats_7 : decode cX8_eats 7 = .ok (.istore_n 2, 1) := dk_61 (dk_at dksX8_eats_0 7 rfl rfl)
theorem dX8_eats_8 : decode cX8_eats 8 = .ok (.aload_n 0, 1) := dk_42 (dk_at dksX8_eats_0 8 rfl rfl)
theorem dX8_eats_9 : decode cX8_eats 9 = .ok (.getfield 9, 3) := dk_180 0 9 (dk_at dksX8_eats_0 9 rfl rfl)
theorem dX8_eats_12 : decode cX8_eats 12 = .ok (.iload_n 2, 1) := dk_28 (dk_at dksX8_eats_0 12 rfl rfl)
theorem dX8_eats_13 : decode cX8_eats 13 = .ok (.iconst 2, 1) := dk_5 (dk_at dksX8_eats_0 13 rfl rfl)
theorem dX8_eats_14 : decode cX8_eats 14 = .ok (.iadd, 1) := dk_96 (dk_at dksX8_eats_0 14 rfl rfl)
theorem dX8_eats_15 : decode cX8_eats 15 = .ok (.dup2, 1) := dk_92 (dk_at dksX8_eats_0 15 rfl rfl)
theorem dX8_eats_16 : decode cX8_eats 16 = .ok (.iaload, 1) := dk_46 (dk_at dksX8_eats_0 16 rfl rfl)
theorem dX8_eats_17 : decode cX8_eats 17 = .ok (.iload_n 1, 1) := dk_27 (dk_at dksX8_eats_0 17 rfl rfl)
theorem dX8_eats_18 : decode cX8_eats 18 = .ok (.iconst 4, 1) := dk_7 (dk_at dksX8_eats_0 18 rfl rfl)
theorem dX8_eats_19 : decode cX8_eats 19 = .ok (.if_icmp .ge 11, 3) := dk_162 0 11 (dk_at dksX8_eats_0 19 rfl rfl)
theorem dX8_eats_22 : decode cX8_eats 22 = .ok (.aload_n 0, 1) := dk_42 (dk_at dksX8_eats_0 22 rfl rfl)
theorem dX8_eats_23 : decode cX8_eats 23 = .ok (.iload_n 1, 1) := dk_27 (dk_at dksX8_eats_0 23 rfl rfl)
theorem dX8_eats_24 : decode cX8_eats 24 = .ok (.invokevirtual 204, 3) := dk_182 0 204 (dk_at dksX8_eats_1 0 rfl rfl)
theorem dX8_eats_27 : decode cX8_eats 27 = .ok (.goto 10, 3) := dk_167 0 10 (dk_at dksX8_eats_1 3 rfl rfl)
theorem dX8_eats_30 : decode cX8_eats 30 = .ok (.aload_n 0, 1) := dk_42 (dk_at dksX8_eats_1 6 rfl rfl)
theorem dX8_eats_31 : decode cX8_eats 31 = .ok (.iload_n 1, 1) := dk_27 (dk_at dksX8_eats_1 7 rfl rfl)
theorem dX8_eats_32 : decode cX8_eats 32 = .ok (.iconst 4, 1) := dk_7 (dk_at dksX8_eats_1 8 rfl rfl)
theorem dX8_eats_33 : decode cX8_eats 33 = .ok (.isub, 1) := dk_100 (dk_at dksX8_eats_1 9 rfl rfl)
theorem dX8_eats_34 : decode cX8_eats 34 = .ok (.invokevirtual 207, 3) := dk_182 0 207 (dk_at dksX8_eats_1 10 rfl rfl)
theorem dX8_eats_37 : decode cX8_eats 37 = .ok (.iadd, 1) := dk_96 (dk_at dksX8_eats_1 13 rfl rfl)
theorem dX8_eats_38 : decode cX8_eats 38 = .ok (.iastore, 1) := dk_79 (dk_at dksX8_eats_1 14 rfl rfl)
theorem dX8_eats_39 : decode cX8_eats 39 = .ok (.iload_n 1, 1) := dk_27 (dk_at dksX8_eats_1 15 rfl rfl)
theorem dX8_eats_40 : decode cX8_eats 40 = .ok (.iconst 4, 1) := dk_7 (dk_at dksX8_eats_1 16 rfl rfl)
theorem dX8_eats_41 : decode cX8_eats 41 = .ok (.if_icmp .ge 11, 3) := dk_162 0 11 (dk_at dksX8_eats_1 17 rfl rfl)
theorem dX8_eats_44 : decode cX8_eats 44 = .ok (.aload_n 0, 1) := dk_42 (dk_at dksX8_eats_1 20 rfl rfl)
theorem dX8_eats_45 : decode cX8_eats 45 = .ok (.iload_n 1, 1) := dk_27 (dk_at dksX8_eats_1 21 rfl rfl)
theorem dX8_eats_46 : decode cX8_eats 46 = .ok (.invokevirtual 128, 3) := dk_182 0 128 (dk_at dksX8_eats_2 0 rfl rfl)
theorem dX8_eats_49 : decode cX8_eats 49 = .ok (.goto 11, 3) := dk_167 0 11 (dk_at dksX8_eats_2 3 rfl rfl)
theorem dX8_eats_52 : decode cX8_eats 52 = .ok (.aload_n 0, 1) := dk_42 (dk_at dksX8_eats_2 6 rfl rfl)
theorem dX8_eats_53 : decode cX8_eats 53 = .ok (.iload_n 1, 1) := dk_27 (dk_at dksX8_eats_2 7 rfl rfl)
theorem dX8_eats_54 : decode cX8_eats 54 = .ok (.iconst 4, 1) := dk_7 (dk_at dksX8_eats_2 8 rfl rfl)
theorem dX8_eats_55 : decode cX8_eats 55 = .ok (.isub, 1) := dk_100 (dk_at dksX8_eats_2 9 rfl rfl)
theorem dX8_eats_56 : decode cX8_eats 56 = .ok (.iconst 0, 1) := dk_3 (dk_at dksX8_eats_2 10 rfl rfl)
theorem dX8_eats_57 : decode cX8_eats 57 = .ok (.invokevirtual 178, 3) := dk_182 0 178 (dk_at dksX8_eats_2 11 rfl rfl)
theorem dX8_eats_60 : decode cX8_eats 60 = .ok (.istore_n 3, 1) := dk_62 (dk_at dksX8_eats_2 14 rfl rfl)
theorem dX8_eats_61 : decode cX8_eats 61 = .ok (.aload_n 0, 1) := dk_42 (dk_at dksX8_eats_2 15 rfl rfl)
theorem dX8_eats_62 : decode cX8_eats 62 = .ok (.getfield 9, 3) := dk_180 0 9 (dk_at dksX8_eats_2 16 rfl rfl)
theorem dX8_eats_65 : decode cX8_eats 65 = .ok (.iload_n 2, 1) := dk_28 (dk_at dksX8_eats_2 19 rfl rfl)
theorem dX8_eats_66 : decode cX8_eats 66 = .ok (.iconst 1, 1) := dk_4 (dk_at dksX8_eats_2 20 rfl rfl)
theorem dX8_eats_67 : decode cX8_eats 67 = .ok (.iadd, 1) := dk_96 (dk_at dksX8_eats_2 21 rfl rfl)
theorem dX8_eats_68 : decode cX8_eats 68 = .ok (.dup2, 1) := dk_92 (dk_at dksX8_eats_2 22 rfl rfl)
theorem dX8_eats_69 : decode cX8_eats 69 = .ok (.iaload, 1) := dk_46 (dk_at dksX8_eats_2 23 rfl rfl)
theorem dX8_eats_70 : decode cX8_eats 70 = .ok (.iload_n 3, 1) := dk_29 (dk_at dksX8_eats_3 0 rfl rfl)
theorem dX8_eats_71 : decode cX8_eats 71 = .ok (.ifCond .le 12, 3) := dk_158 0 12 (dk_at dksX8_eats_3 1 rfl rfl)
theorem dX8_eats_74 : decode cX8_eats 74 = .ok (.aload_n 0, 1) := dk_42 (dk_at dksX8_eats_3 4 rfl rfl)
theorem dX8_eats_75 : decode cX8_eats 75 = .ok (.getfield 9, 3) := dk_180 0 9 (dk_at dksX8_eats_3 5 rfl rfl)
theorem dX8_eats_78 : decode cX8_eats 78 = .ok (.iload_n 2, 1) := dk_28 (dk_at dksX8_eats_3 8 rfl rfl)
theorem dX8_eats_79 : decode cX8_eats 79 = .ok (.iaload, 1) := dk_46 (dk_at dksX8_eats_3 9 rfl rfl)
theorem dX8_eats_80 : decode cX8_eats 80 = .ok (.goto 16, 3) := dk_167 0 16 (dk_at dksX8_eats_3 10 rfl rfl)
theorem dX8_eats_83 : decode cX8_eats 83 = .ok (.aload_n 0, 1) := dk_42 (dk_at dksX8_eats_3 13 rfl rfl)
theorem dX8_eats_84 : decode cX8_eats 84 = .ok (.getfield 9, 3) := dk_180 0 9 (dk_at dksX8_eats_3 14 rfl rfl)
theorem dX8_eats_87 : decode cX8_eats 87 = .ok (.iload_n 2, 1) := dk_28 (dk_at dksX8_eats_3 17 rfl rfl)
theorem dX8_eats_88 : decode cX8_eats 88 = .ok (.iconst 1, 1) := dk_4 (dk_at dksX8_eats_3 18 rfl rfl)
theorem dX8_eats_89 : decode cX8_eats 89 = .ok (.iadd, 1) := dk_96 (dk_at dksX8_eats_3 19 rfl rfl)
theorem dX8_eats_90 : decode cX8_eats 90 = .ok (.iaload, 1) := dk_46 (dk_at dksX8_eats_3 20 rfl rfl)
theorem dX8_eats_91 : decode cX8_eats 91 = .ok (.iconst 1, 1) := dk_4 (dk_at dksX8_eats_3 21 rfl rfl)
theorem dX8_eats_92 : decode cX8_eats 92 = .ok (.iadd, 1) := dk_96 (dk_at dksX8_eats_3 22 rfl rfl)
theorem dX8_eats_93 : decode cX8_eats 93 = .ok (.iconst 2, 1) := dk_5 (dk_at dksX8_eats_3 23 rfl rfl)
theorem dX8_eats_94 : decode cX8_eats 94 = .ok (.idiv, 1) := dk_108 (dk_at dksX8_eats_4 0 rfl rfl)
theorem dX8_eats_95 : decode cX8_eats 95 = .ok (.ineg, 1) := dk_116 (dk_at dksX8_eats_4 1 rfl rfl)
theorem dX8_eats_96 : decode cX8_eats 96 = .ok (.iadd, 1) := dk_96 (dk_at dksX8_eats_4 2 rfl rfl)
theorem dX8_eats_97 : decode cX8_eats 97 = .ok (.iastore, 1) := dk_79 (dk_at dksX8_eats_4 3 rfl rfl)
theorem dX8_eats_98 : decode cX8_eats 98 = .ok (.aload_n 0, 1) := dk_42 (dk_at dksX8_eats_4 4 rfl rfl)
theorem dX8_eats_99 : decode cX8_eats 99 = .ok (.getfield 9, 3) := dk_180 0 9 (dk_at dksX8_eats_4 5 rfl rfl)
theorem dX8_eats_102 : decode cX8_eats 102 = .ok (.iload_n 2, 1) := dk_28 (dk_at dksX8_eats_4 8 rfl rfl)
theorem dX8_eats_103 : decode cX8_eats 103 = .ok (.iconst 1, 1) := dk_4 (dk_at dksX8_eats_4 9 rfl rfl)
theorem dX8_eats_104 : decode cX8_eats 104 = .ok (.iadd, 1) := dk_96 (dk_at dksX8_eats_4 10 rfl rfl)
theorem dX8_eats_105 : decode cX8_eats 105 = .ok (.dup2, 1) := dk_92 (dk_at dksX8_eats_4 11 rfl rfl)
theorem dX8_eats_106 : decode cX8_eats 106 = .ok (.iaload, 1) := dk_46 (dk_at dksX8_eats_4 12 rfl rfl)
theorem dX8_eats_107 : decode cX8_eats 107 = .ok (.aload_n 0, 1) := dk_42 (dk_at dksX8_eats_4 13 rfl rfl)
theorem dX8_eats_108 : decode cX8_eats 108 = .ok (.getfield 9, 3) := dk_180 0 9 (dk_at dksX8_eats_4 14 rfl rfl)
theorem dX8_eats_111 : decode cX8_eats 111 = .ok (.sipush 427, 3) := dk_17 1 171 (dk_at dksX8_eats_4 17 rfl rfl)
theorem dX8_eats_114 : decode cX8_eats 114 = .ok (.iaload, 1) := dk_46 (dk_at dksX8_eats_4 20 rfl rfl)
theorem dX8_eats_115 : decode cX8_eats 115 = .ok (.iload_n 1, 1) := dk_27 (dk_at dksX8_eats_4 21 rfl rfl)
theorem dX8_eats_116 : decode cX8_eats 116 = .ok (.if_icmp .ne 18, 3) := dk_160 0 18 (dk_at dksX8_eats_5 0 rfl rfl)
theorem dX8_eats_119 : decode cX8_eats 119 = .ok (.aload_n 0, 1) := dk_42 (dk_at dksX8_eats_5 3 rfl rfl)
theorem dX8_eats_120 : decode cX8_eats 120 = .ok (.getfield 9, 3) := dk_180 0 9 (dk_at dksX8_eats_5 4 rfl rfl)
theorem dX8_eats_123 : decode cX8_eats 123 = .ok (.iload_n 2, 1) := dk_28 (dk_at dksX8_eats_5 7 rfl rfl)
theorem dX8_eats_124 : decode cX8_eats 124 = .ok (.iconst 1, 1) := dk_4 (dk_at dksX8_eats_5 8 rfl rfl)
theorem dX8_eats_125 : decode cX8_eats 125 = .ok (.iadd, 1) := dk_96 (dk_at dksX8_eats_5 9 rfl rfl)
theorem dX8_eats_126 : decode cX8_eats 126 = .ok (.iaload, 1) := dk_46 (dk_at dksX8_eats_5 10 rfl rfl)
theorem dX8_eats_127 : decode cX8_eats 127 = .ok (.iconst 1, 1) := dk_4 (dk_at dksX8_eats_5 11 rfl rfl)
theorem dX8_eats_128 : decode cX8_eats 128 = .ok (.iadd, 1) := dk_96 (dk_at dksX8_eats_5 12 rfl rfl)
theorem dX8_eats_129 : decode cX8_eats 129 = .ok (.iconst 2, 1) := dk_5 (dk_at dksX8_eats_5 13 rfl rfl)
theorem dX8_eats_130 : decode cX8_eats 130 = .ok (.idiv, 1) := dk_108 (dk_at dksX8_eats_5 14 rfl rfl)
theorem dX8_eats_131 : decode cX8_eats 131 = .ok (.goto 4, 3) := dk_167 0 4 (dk_at dksX8_eats_5 15 rfl rfl)
theorem dX8_eats_134 : decode cX8_eats 134 = .ok (.iconst 0, 1) := dk_3 (dk_at dksX8_eats_5 18 rfl rfl)
theorem dX8_eats_135 : decode cX8_eats 135 = .ok (.isub, 1) := dk_100 (dk_at dksX8_eats_5 19 rfl rfl)
theorem dX8_eats_136 : decode cX8_eats 136 = .ok (.iastore, 1) := dk_79 (dk_at dksX8_eats_5 20 rfl rfl)
theorem dX8_eats_137 : decode cX8_eats 137 = .ok (.aload_n 0, 1) := dk_42 (dk_at dksX8_eats_5 21 rfl rfl)
theorem dX8_eats_138 : decode cX8_eats 138 = .ok (.getfield 9, 3) := dk_180 0 9 (dk_at dksX8_eats_6 0 rfl rfl)
theorem dX8_eats_141 : decode cX8_eats 141 = .ok (.iload_n 2, 1) := dk_28 (dk_at dksX8_eats_6 3 rfl rfl)
theorem dX8_eats_142 : decode cX8_eats 142 = .ok (.iconst 1, 1) := dk_4 (dk_at dksX8_eats_6 4 rfl rfl)
theorem dX8_eats_143 : decode cX8_eats 143 = .ok (.iadd, 1) := dk_96 (dk_at dksX8_eats_6 5 rfl rfl)
theorem dX8_eats_144 : decode cX8_eats 144 = .ok (.bipush 50, 2) := dk_16 50 (dk_at dksX8_eats_6 6 rfl rfl)
theorem dX8_eats_146 : decode cX8_eats 146 = .ok (.aload_n 0, 1) := dk_42 (dk_at dksX8_eats_6 8 rfl rfl)
theorem dX8_eats_147 : decode cX8_eats 147 = .ok (.getfield 9, 3) := dk_180 0 9 (dk_at dksX8_eats_6 9 rfl rfl)
theorem dX8_eats_150 : decode cX8_eats 150 = .ok (.iload_n 2, 1) := dk_28 (dk_at dksX8_eats_6 12 rfl rfl)
theorem dX8_eats_151 : decode cX8_eats 151 = .ok (.iconst 1, 1) := dk_4 (dk_at dksX8_eats_6 13 rfl rfl)
theorem dX8_eats_152 : decode cX8_eats 152 = .ok (.iadd, 1) := dk_96 (dk_at dksX8_eats_6 14 rfl rfl)
theorem dX8_eats_153 : decode cX8_eats 153 = .ok (.iaload, 1) := dk_46 (dk_at dksX8_eats_6 15 rfl rfl)
theorem dX8_eats_154 : decode cX8_eats 154 = .ok (.invokestatic 199, 3) := dk_184 0 199 (dk_at dksX8_eats_6 16 rfl rfl)
theorem dX8_eats_157 : decode cX8_eats 157 = .ok (.iastore, 1) := dk_79 (dk_at dksX8_eats_6 19 rfl rfl)
theorem dX8_eats_158 : decode cX8_eats 158 = .ok (.return_, 1) := dk_177 (dk_at dksX8_eats_6 20 rfl rfl)
def dkwX8_eatInBay_2 : List UInt8 := [96, 79, 42, 27, 4, 182, 0, 168, 132, 3, 1, 167, 255, 216, 28, 172]
abbrev dktX8_eatInBay_2 : List UInt8 := dkwX8_eatInBay_2 ++ []
def dkwX8_eatInBay_1 : List UInt8 := [42, 180, 0, 9, 17, 1, 176, 92, 46, 42, 27, 42, 27, 182, 0, 128, 4, 100, 182, 0, 141, 184, 0, 134]
abbrev dktX8_eatInBay_1 : List UInt8 := dkwX8_eatInBay_1 ++ dktX8_eatInBay_2
def dkwX8_eatInBay_0 : List UInt8 := [42, 27, 182, 0, 128, 42, 27, 182, 0, 181, 16, 10, 108, 184, 0, 199, 61, 3, 62, 29, 28, 162, 0, 41]
abbrev dktX8_eatInBay_0 : List UInt8 := dkwX8_eatInBay_0 ++ dktX8_eatInBay_1
theorem dksX8_eatInBay_0 : cX8_eatInBay.data.toList.drop 0 = dktX8_eatInBay_0 := by decide +kernel
theorem dksX8_eatInBay_1 : cX8_eatInBay.data.toList.drop 24 = dktX8_eatInBay_1 := dk_seg dksX8_eatInBay_0 24 rfl rfl
theorem dksX8_eatInBay_2 : cX8_eatInBay.data.toList.drop 48 = dktX8_eatInBay_2 := dk_seg dksX8_eatInBay_1 24 rfl rfl
theorem dX8_eatInBay_0 : decode cX8_eatInBay 0 = .ok (.aload_n 0, 1) := dk_42 (dk_at dksX8_eatInBay_0 0 rfl rfl)
theorem dX8_eatInBay_1 : decode cX8_eatInBay 1 = .ok (.iload_n 1, 1) := dk_27 (dk_at dksX8_eatInBay_0 1 rfl rfl)
theorem dX8_eatInBay_2 : decode cX8_eatInBay 2 = .ok (.invokevirtual 128, 3) := dk_182 0 128 (dk_at dksX8_eatInBay_0 2 rfl rfl)
theorem dX8_eatInBay_5 : decode cX8_eatInBay 5 = .ok (.aload_n 0, 1) := dk_42 (dk_at dksX8_eatInBay_0 5 rfl rfl)
theorem dX8_eatInBay_6 : decode cX8_eatInBay 6 = .ok (.iload_n 1, 1) := dk_27 (dk_at dksX8_eatInBay_0 6 rfl rfl)
theorem dX8_eatInBay_7 : decode cX8_eatInBay 7 = .ok (.invokevirtual 181, 3) := dk_182 0 181 (dk_at dksX8_eatInBay_0 7 rfl rfl)
theorem dX8_eatInBay_10 : decode cX8_eatInBay 10 = .ok (.bipush 10, 2) := dk_16 10 (dk_at dksX8_eatInBay_0 10 rfl rfl)
theorem dX8_eatInBay_12 : decode cX8_eatInBay 12 = .ok (.idiv, 1) := dk_108 (dk_at dksX8_eatInBay_0 12 rfl rfl)
theorem dX8_eatInBay_13 : decode cX8_eatInBay 13 = .ok (.invokestatic 199, 3) := dk_184 0 199 (dk_at dksX8_eatInBay_0 13 rfl rfl)
theorem dX8_eatInBay_16 : decode cX8_eatInBay 16 = .ok (.istore_n 2, 1) := dk_61 (dk_at dksX8_eatInBay_0 16 rfl rfl)
theorem dX8_eatInBay_17 : decode cX8_eatInBay 17 = .ok (.iconst 0, 1) := dk_3 (dk_at dksX8_eatInBay_0 17 rfl rfl)
theorem dX8_eatInBay_18 : decode cX8_eatInBay 18 = .ok (.istore_n 3, 1) := dk_62 (dk_at dksX8_eatInBay_0 18 rfl rfl)
theorem dX8_eatInBay_19 : decode cX8_eatInBay 19 = .ok (.iload_n 3, 1) := dk_29 (dk_at dksX8_eatInBay_0 19 rfl rfl)
theorem dX8_eatInBay_20 : decode cX8_eatInBay 20 = .ok (.iload_n 2, 1) := dk_28 (dk_at dksX8_eatInBay_0 20 rfl rfl)
theorem dX8_eatInBay_21 : decode cX8_eatInBay 21 = .ok (.if_icmp .ge 41, 3) := dk_162 0 41 (dk_at dksX8_eatInBay_0 21 rfl rfl)
theorem dX8_eatInBay_24 : decode cX8_eatInBay 24 = .ok (.aload_n 0, 1) := dk_42 (dk_at dksX8_eatInBay_1 0 rfl rfl)
theorem dX8_eatInBay_25 : decode cX8_eatInBay 25 = .ok (.getfield 9, 3) := dk_180 0 9 (dk_at dksX8_eatInBay_1 1 rfl rfl)
theorem dX8_eatInBay_28 : decode cX8_eatInBay 28 = .ok (.sipush 432, 3) := dk_17 1 176 (dk_at dksX8_eatInBay_1 4 rfl rfl)
theorem dX8_eatInBay_31 : decode cX8_eatInBay 31 = .ok (.dup2, 1) := dk_92 (dk_at dksX8_eatInBay_1 7 rfl rfl)
theorem dX8_eatInBay_32 : decode cX8_eatInBay 32 = .ok (.iaload, 1) := dk_46 (dk_at dksX8_eatInBay_1 8 rfl rfl)
theorem dX8_eatInBay_33 : decode cX8_eatInBay 33 = .ok (.aload_n 0, 1) := dk_42 (dk_at dksX8_eatInBay_1 9 rfl rfl)
theorem dX8_eatInBay_34 : decode cX8_eatInBay 34 = .ok (.iload_n 1, 1) := dk_27 (dk_at dksX8_eatInBay_1 10 rfl rfl)
theorem dX8_eatInBay_35 : decode cX8_eatInBay 35 = .ok (.aload_n 0, 1) := dk_42 (dk_at dksX8_eatInBay_1 11 rfl rfl)
theorem dX8_eatInBay_36 : decode cX8_eatInBay 36 = .ok (.iload_n 1, 1) := dk_27 (dk_at dksX8_eatInBay_1 12 rfl rfl)
theorem dX8_eatInBay_37 : decode cX8_eatInBay 37 = .ok (.invokevirtual 128, 3) := dk_182 0 128 (dk_at dksX8_eatInBay_1 13 rfl rfl)
theorem dX8_eatInBay_40 : decode cX8_eatInBay 40 = .ok (.iconst 1, 1) := dk_4 (dk_at dksX8_eatInBay_1 16 rfl rfl)
theorem dX8_eatInBay_41 : decode cX8_eatInBay 41 = .ok (.isub, 1) := dk_100 (dk_at dksX8_eatInBay_1 17 rfl rfl)
theorem dX8_eatInBay_42 : decode cX8_eatInBay 42 = .ok (.invokevirtual 141, 3) := dk_182 0 141 (dk_at dksX8_eatInBay_1 18 rfl rfl)
theorem dX8_eatInBay_45 : decode cX8_eatInBay 45 = .ok (.invokestatic 134, 3) := dk_184 0 134 (dk_at dksX8_eatInBay_1 21 rfl rfl)
theorem dX8_eatInBay_48 : decode cX8_eatInBay 48 = .ok (.iadd, 1) := dk_96 (dk_at dksX8_eatInBay_2 0 rfl rfl)
theorem dX8_eatInBay_49 : decode cX8_eatInBay 49 = .ok (.iastore, 1) := dk_79 (dk_at dksX8_eatInBay_2 1 rfl rfl)
theorem dX8_eatInBay_50 : decode cX8_eatInBay 50 = .ok (.aload_n 0, 1) := dk_42 (dk_at dksX8_eatInBay_2 2 rfl rfl)
theorem dX8_eatInBay_51 : decode cX8_eatInBay 51 = .ok (.iload_n 1, 1) := dk_27 (dk_at dksX8_eatInBay_2 3 rfl rfl)
theorem dX8_eatInBay_52 : decode cX8_eatInBay 52 = .ok (.iconst 1, 1) := dk_4 (dk_at dksX8_eatInBay_2 4 rfl rfl)
theorem dX8_eatInBay_53 : decode cX8_eatInBay 53 = .ok (.invokevirtual 168, 3) := dk_182 0 168 (dk_at dksX8_eatInBay_2 5 rfl rfl)
theorem dX8_eatInBay_56 : decode cX8_eatInBay 56 = .ok (.iinc 3 1, 3) := dk_132 3 1 (dk_at dksX8_eatInBay_2 8 rfl rfl)
theorem dX8_eatInBay_59 : decode cX8_eatInBay 59 = .ok (.goto (-40), 3) := dk_167 255 216 (dk_at dksX8_eatInBay_2 11 rfl rfl)
theorem dX8_eatInBay_62 : decode cX8_eatInBay 62 = .ok (.iload_n 2, 1) := dk_28 (dk_at dksX8_eatInBay_2 14 rfl rfl)
theorem dX8_eatInBay_63 : decode cX8_eatInBay 63 = .ok (.ireturn, 1) := dk_172 (dk_at dksX8_eatInBay_2 15 rfl rfl)
def dkwX8_eatInBin_1 : List UInt8 := [8, 27, 104, 96, 92, 46, 28, 100, 79, 42, 180, 0, 9, 17, 1, 176, 92, 46, 28, 96, 79, 28, 172]
abbrev dktX8_eatInBin_1 : List UInt8 := dkwX8_eatInBin_1 ++ []
def dkwX8_eatInBin_0 : List UInt8 := [42, 27, 3, 182, 0, 178, 42, 7, 27, 96, 182, 0, 181, 184, 0, 199, 61, 42, 180, 0, 9, 17, 1, 135]
abbrev dktX8_eatInBin_0 : List UInt8 := dkwX8_eatInBin_0 ++ dktX8_eatInBin_1
theorem dksX8_eatInBin_0 : cX8_eatInBin.data.toList.drop 0 = dktX8_eatInBin_0 := by decide +kernel
theorem dksX8_eatInBin_1 : cX8_eatInBin.data.toList.drop 24 = dktX8_eatInBin_1 := dk_seg dksX8_eatInBin_0 24 rfl rfl
theorem dX8_eatInBin_0 : decode cX8_eatInBin 0 = .ok (.aload_n 0, 1) := dk_42 (dk_at dksX8_eatInBin_0 0 rfl rfl)
theorem dX8_eatInBin_1 : decode cX8_eatInBin 1 = .ok (.iload_n 1, 1) := dk_27 (dk_at dksX8_eatInBin_0 1 rfl rfl)
theorem dX8_eatInBin_2 : decode cX8_eatInBin 2 = .ok (.iconst 0, 1) := dk_3 (dk_at dksX8_eatInBin_0 2 rfl rfl)
theorem dX8_eatInBin_3 : decode cX8_eatInBin 3 = .ok (.invokevirtual 178, 3) := dk_182 0 178 (dk_at dksX8_eatInBin_0 3 rfl rfl)
theorem dX8_eatInBin_6 : decode cX8_eatInBin 6 = .ok (.aload_n 0, 1) := dk_42 (dk_at dksX8_eatInBin_0 6 rfl rfl)
theorem dX8_eatInBin_7 : decode cX8_eatInBin 7 = .ok (.iconst 4, 1) := dk_7 (dk_at dksX8_eatInBin_0 7 rfl rfl)
theorem dX8_eatInBin_8 : decode cX8_eatInBin 8 = .ok (.iload_n 1, 1) := dk_27 (dk_at dksX8_eatInBin_0 8 rfl rfl)
theorem dX8_eatInBin_9 : decode cX8_eatInBin 9 = .ok (.iadd, 1) := dk_96 (dk_at dksX8_eatInBin_0 9 rfl rfl)
theorem dX8_eatInBin_10 : decode cX8_eatInBin 10 = .ok (.invokevirtual 181, 3) := dk_182 0 181 (dk_at dksX8_eatInBin_0 10 rfl rfl)
theorem dX8_eatInBin_13 : decode cX8_eatInBin 13 = .ok (.invokestatic 199, 3) := dk_184 0 199 (dk_at dksX8_eatInBin_0 13 rfl rfl)
theorem dX8_eatInBin_16 : decode cX8_eatInBin 16 = .ok (.istore_n 2, 1) := dk_61 (dk_at dksX8_eatInBin_0 16 rfl rfl)
theorem dX8_eatInBin_17 : decode cX8_eatInBin 17 = .ok (.aload_n 0, 1) := dk_42 (dk_at dksX8_eatInBin_0 17 rfl rfl)
theorem dX8_eatInBin_18 : decode cX8_eatInBin 18 = .ok (.getfield 9, 3) := dk_180 0 9 (dk_at dksX8_eatInBin_0 18 rfl rfl)
theorem dX8_eatInBin_21 : decode cX8_eatInBin 21 = .ok (.sipush 391, 3) := dk_17 1 135 (dk_at dksX8_eatInBin_0 21 rfl rfl)
theorem dX8_eatInBin_24 : decode cX8_eatInBin 24 = .ok (.iconst 5, 1) := dk_8 (dk_at dksX8_eatInBin_1 0 rfl rfl)
theorem dX8_eatInBin_25 : decode cX8_eatInBin 25 = .ok (.iload_n 1, 1) := dk_27 (dk_at dksX8_eatInBin_1 1 rfl rfl)
theorem dX8_eatInBin_26 : decode cX8_eatInBin 26 = .ok (.imul, 1) := dk_104 (dk_at dksX8_eatInBin_1 2 rfl rfl)
theorem dX8_eatInBin_27 : decode cX8_eatInBin 27 = .ok (.iadd, 1) := dk_96 (dk_at dksX8_eatInBin_1 3 rfl rfl)
theorem dX8_eatInBin_28 : decode cX8_eatInBin 28 = .ok (.dup2, 1) := dk_92 (dk_at dksX8_eatInBin_1 4 rfl rfl)
theorem dX8_eatInBin_29 : decode cX8_eatInBin 29 = .ok (.iaload, 1) := dk_46 (dk_at dksX8_eatInBin_1 5 rfl rfl)
theorem dX8_eatInBin_30 : decode cX8_eatInBin 30 = .ok (.iload_n 2, 1) := dk_28 (dk_at dksX8_eatInBin_1 6 rfl rfl)
theorem dX8_eatInBin_31 : decode cX8_eatInBin 31 = .ok (.isub, 1) := dk_100 (dk_at dksX8_eatInBin_1 7 rfl rfl)
theorem dX8_eatInBin_32 : decode cX8_eatInBin 32 = .ok (.iastore, 1) := dk_79 (dk_at dksX8_eatInBin_1 8 rfl rfl)
theorem dX8_eatInBin_33 : decode cX8_eatInBin 33 = .ok (.aload_n 0, 1) := dk_42 (dk_at dksX8_eatInBin_1 9 rfl rfl)
theorem dX8_eatInBin_34 : decode cX8_eatInBin 34 = .ok (.getfield 9, 3) := dk_180 0 9 (dk_at dksX8_eatInBin_1 10 rfl rfl)
theorem dX8_eatInBin_37 : decode cX8_eatInBin 37 = .ok (.sipush 432, 3) := dk_17 1 176 (dk_at dksX8_eatInBin_1 13 rfl rfl)
theorem dX8_eatInBin_40 : decode cX8_eatInBin 40 = .ok (.dup2, 1) := dk_92 (dk_at dksX8_eatInBin_1 16 rfl rfl)
theorem dX8_eatInBin_41 : decode cX8_eatInBin 41 = .ok (.iaload, 1) := dk_46 (dk_at dksX8_eatInBin_1 17 rfl rfl)
theorem dX8_eatInBin_42 : decode cX8_eatInBin 42 = .ok (.iload_n 2, 1) := dk_28 (dk_at dksX8_eatInBin_1 18 rfl rfl)
theorem dX8_eatInBin_43 : decode cX8_eatInBin 43 = .ok (.iadd, 1) := dk_96 (dk_at dksX8_eatInBin_1 19 rfl rfl)
theorem dX8_eatInBin_44 : decode cX8_eatInBin 44 = .ok (.iastore, 1) := dk_79 (dk_at dksX8_eatInBin_1 20 rfl rfl)
theorem dX8_eatInBin_45 : decode cX8_eatInBin 45 = .ok (.iload_n 2, 1) := dk_28 (dk_at dksX8_eatInBin_1 21 rfl rfl)
theorem dX8_eatInBin_46 : decode cX8_eatInBin 46 = .ok (.ireturn, 1) := dk_172 (dk_at dksX8_eatInBin_1 22 rfl rfl)
def dkwX8_falls_2 : List UInt8 := [46, 42, 180, 0, 9, 28, 16, 6, 96, 46, 96, 79, 42, 27, 182, 0, 131, 167, 255, 198, 177]
abbrev dktX8_falls_2 : List UInt8 := dkwX8_falls_2 ++ []
def dkwX8_falls_1 : List UInt8 := [96, 46, 42, 180, 0, 9, 17, 1, 172, 46, 16, 7, 100, 163, 0, 31, 42, 180, 0, 9, 28, 5, 96, 92]
abbrev dktX8_falls_1 : List UInt8 := dkwX8_falls_1 ++ dktX8_falls_2
def dkwX8_falls_0 : List UInt8 := [4, 16, 23, 27, 104, 96, 61, 42, 180, 0, 9, 28, 7, 96, 46, 158, 0, 53, 42, 180, 0, 9, 28, 8]
abbrev dktX8_falls_0 : List UInt8 := dkwX8_falls_0 ++ dktX8_falls_1
theorem dksX8_falls_0 : cX8_falls.data.toList.drop 0 = dktX8_falls_0 := by decide +kernel
theorem dksX8_falls_1 : cX8_falls.data.toList.drop 24 = dktX8_falls_1 := dk_seg dksX8_falls_0 24 rfl rfl
theorem dksX8_falls_2 : cX8_falls.data.toList.drop 48 = dktX8_falls_2 := dk_seg dksX8_falls_1 24 rfl rfl
theorem dX8_falls_0 : decode cX8_falls 0 = .ok (.iconst 1, 1) := dk_4 (dk_at dksX8_falls_0 0 rfl rfl)
theorem dX8_falls_1 : decode cX8_falls 1 = .ok (.bipush 23, 2) := dk_16 23 (dk_at dksX8_falls_0 1 rfl rfl)
theorem dX8_falls_3 : decode cX8_falls 3 = .ok (.iload_n 1, 1) := dk_27 (dk_at dksX8_falls_0 3 rfl rfl)
theorem dX8_falls_4 : decode cX8_falls 4 = .ok (.imul, 1) := dk_104 (dk_at dksX8_falls_0 4 rfl rfl)
theorem dX8_falls_5 : decode cX8_falls 5 = .ok (.iadd, 1) := dk_96 (dk_at dksX8_falls_0 5 rfl rfl)
theorem dX8_falls_6 : decode cX8_falls 6 = .ok (.istore_n 2, 1) := dk_61 (dk_at dksX8_falls_0 6 rfl rfl)
theorem dX8_falls_7 : decode cX8_falls 7 = .ok (.aload_n 0, 1) := dk_42 (dk_at dksX8_falls_0 7 rfl rfl)
theorem dX8_falls_8 : decode cX8_falls 8 = .ok (.getfield 9, 3) := dk_180 0 9 (dk_at dksX8_falls_0 8 rfl rfl)
theorem dX8_falls_11 : decode cX8_falls 11 = .ok (.iload_n 2, 1) := dk_28 (dk_at dksX8_falls_0 11 rfl rfl)
theorem dX8_falls_12 : decode cX8_falls 12 = .ok (.iconst 4, 1) := dk_7 (dk_at dksX8_falls_0 12 rfl rfl)
theorem dX8_falls_13 : decode cX8_falls 13 = .ok (.iadd, 1) := dk_96 (dk_at dksX8_falls_0 13 rfl rfl)
theorem dX8_falls_14 : decode cX8_falls 14 = .ok (.iaload, 1) := dk_46 (dk_at dksX8_falls_0 14 rfl rfl)
theorem dX8_falls_15 : decode cX8_falls 15 = .ok (.ifCond .le 53, 3) := dk_158 0 53 (dk_at dksX8_falls_0 15 rfl rfl)
theorem dX8_falls_18 : decode cX8_falls 18 = .ok (.aload_n 0, 1) := dk_42 (dk_at dksX8_falls_0 18 rfl rfl)
theorem dX8_falls_19 : decode cX8_falls 19 = .ok (.getfield 9, 3) := dk_180 0 9 (dk_at dksX8_falls_0 19 rfl rfl)
theorem dX8_falls_22 : decode cX8_falls 22 = .ok (.iload_n 2, 1) := dk_28 (dk_at dksX8_falls_0 22 rfl rfl)
theorem dX8_falls_23 : decode cX8_falls 23 = .ok (.iconst 5, 1) := dk_8 (dk_at dksX8_falls_0 23 rfl rfl)
theorem dX8_falls_24 : decode cX8_falls 24 = .ok (.iadd, 1) := dk_96 (dk_at dksX8_falls_1 0 rfl rfl)
theorem dX8_falls_25 : decode cX8_falls 25 = .ok (.iaload, 1) := dk_46 (dk_at dksX8_falls_1 1 rfl rfl)
theorem dX8_falls_26 : decode cX8_falls 26 = .ok (.aload_n 0, 1) := dk_42 (dk_at dksX8_falls_1 2 rfl rfl)
theorem dX8_falls_27 : decode cX8_falls 27 = .ok (.getfield 9, 3) := dk_180 0 9 (dk_at dksX8_falls_1 3 rfl rfl)
theorem dX8_falls_30 : decode cX8_falls 30 = .ok (.sipush 428, 3) := dk_17 1 172 (dk_at dksX8_falls_1 6 rfl rfl)
theorem dX8_falls_33 : decode cX8_falls 33 = .ok (.iaload, 1) := dk_46 (dk_at dksX8_falls_1 9 rfl rfl)
theorem dX8_falls_34 : decode cX8_falls 34 = .ok (.bipush 7, 2) := dk_16 7 (dk_at dksX8_falls_1 10 rfl rfl)
theorem dX8_falls_36 : decode cX8_falls 36 = .ok (.isub, 1) := dk_100 (dk_at dksX8_falls_1 12 rfl rfl)
theorem dX8_falls_37 : decode cX8_falls 37 = .ok (.if_icmp .gt 31, 3) := dk_163 0 31 (dk_at dksX8_falls_1 13 rfl rfl)
theorem dX8_falls_40 : decode cX8_falls 40 = .ok (.aload_n 0, 1) := dk_42 (dk_at dksX8_falls_1 16 rfl rfl)
theorem dX8_falls_41 : decode cX8_falls 41 = .ok (.getfield 9, 3) := dk_180 0 9 (dk_at dksX8_falls_1 17 rfl rfl)
theorem dX8_falls_44 : decode cX8_falls 44 = .ok (.iload_n 2, 1) := dk_28 (dk_at dksX8_falls_1 20 rfl rfl)
theorem dX8_falls_45 : decode cX8_falls 45 = .ok (.iconst 2, 1) := dk_5 (dk_at dksX8_falls_1 21 rfl rfl)
theorem dX8_falls_46 : decode cX8_falls 46 = .ok (.iadd, 1) := dk_96 (dk_at dksX8_falls_1 22 rfl rfl)
theorem dX8_falls_47 : decode cX8_falls 47 = .ok (.dup2, 1) := dk_92 (dk_at dksX8_falls_1 23 rfl rfl)
theorem dX8_falls_48 : decode cX8_falls 48 = .ok (.iaload, 1) := dk_46 (dk_at dksX8_falls_2 0 rfl rfl)
theorem dX8_falls_49 : decode cX8_falls 49 = .ok (.aload_n 0, 1) := dk_42 (dk_at dksX8_falls_2 1 rfl rfl)
theorem dX8_falls_50 : decode cX8_falls 50 = .ok (.getfield 9, 3) := dk_180 0 9 (dk_at dksX8_falls_2 2 rfl rfl)
theorem dX8_falls_53 : decode cX8_falls 53 = .ok (.iload_n 2, 1) := dk_28 (dk_at dksX8_falls_2 5 rfl rfl)
theorem dX8_falls_54 : decode cX8_falls 54 = .ok (.bipush 6, 2) := dk_16 6 (dk_at dksX8_falls_2 6 rfl rfl)
theorem dX8_falls_56 : decode cX8_falls 56 = .ok (.iadd, 1) := dk_96 (dk_at dksX8_falls_2 8 rfl rfl)
theorem dX8_falls_57 : decode cX8_falls 57 = .ok (.iaload, 1) := dk_46 (dk_at dksX8_falls_2 9 rfl rfl)
theorem dX8_falls_58 : decode cX8_falls 58 = .ok (.iadd, 1) := dk_96 (dk_at dksX8_falls_2 10 rfl rfl)
theorem dX8_falls_59 : decode cX8_falls 59 = .ok (.iastore, 1) := dk_79 (dk_at dksX8_falls_2 11 rfl rfl)
theorem dX8_falls_60 : decode cX8_falls 60 = .ok (.aload_n 0, 1) := dk_42 (dk_at dksX8_falls_2 12 rfl rfl)
theorem dX8_falls_61 : decode cX8_falls 61 = .ok (.iload_n 1, 1) := dk_27 (dk_at dksX8_falls_2 13 rfl rfl)
theorem dX8_falls_62 : decode cX8_falls 62 = .ok (.invokevirtual 131, 3) := dk_182 0 131 (dk_at dksX8_falls_2 14 rfl rfl)
theorem dX8_falls_65 : decode cX8_falls 65 = .ok (.goto (-58), 3) := dk_167 255 198 (dk_at dksX8_falls_2 17 rfl rfl)
theorem dX8_falls_68 : decode cX8_falls 68 = .ok (.return_, 1) := dk_177 (dk_at dksX8_falls_2 20 rfl rfl)
def dkwX8_lasts_3 : List UInt8 := [167, 0, 4, 28, 172]
abbrev dktX8_lasts_3 : List UInt8 := dkwX8_lasts_3 ++ []
def dkwX8_lasts_2 : List UInt8 := [167, 255, 233, 42, 180, 0, 16, 3, 42, 180, 0, 9, 3, 184, 0, 73, 28, 16, 60, 164, 0, 8, 16, 252]
abbrev dktX8_lasts_2 : List UInt8 := dkwX8_lasts_2 ++ dktX8_lasts_3
def dkwX8_lasts_1 : List UInt8 := [28, 16, 60, 163, 0, 23, 42, 27, 3, 182, 0, 178, 158, 0, 14, 42, 182, 0, 219, 62, 132, 2, 1]
abbrev dktX8_lasts_1 : List UInt8 := dkwX8_lasts_1 ++ dktX8_lasts_2
def dkwX8_lasts_0 : List UInt8 := [27, 184, 0, 93, 154, 0, 5, 2, 172, 42, 180, 0, 9, 3, 42, 180, 0, 16, 3, 184, 0, 73, 3, 61]
abbrev dktX8_lasts_0 : List UInt8 := dkwX8_lasts_0 ++ dktX8_lasts_1
theorem dksX8_lasts_0 : cX8_lasts.data.toList.drop 0 = dktX8_lasts_0 := by decide +kernel
theorem dksX8_lasts_1 : cX8_lasts.data.toList.drop 24 = dktX8_lasts_1 := dk_seg dksX8_lasts_0 24 rfl rfl
theorem dksX8_lasts_2 : cX8_lasts.data.toList.drop 47 = dktX8_lasts_2 := dk_seg dksX8_lasts_1 23 rfl rfl
theorem dksX8_lasts_3 : cX8_lasts.data.toList.drop 71 = dktX8_lasts_3 := dk_seg dksX8_lasts_2 24 rfl rfl
theorem dX8_lasts_0 : decode cX8_lasts 0 = .ok (.iload_n 1, 1) := dk_27 (dk_at dksX8_lasts_0 0 rfl rfl)
theorem dX8_lasts_1 : decode cX8_lasts 1 = .ok (.invokestatic 93, 3) := dk_184 0 93 (dk_at dksX8_lasts_0 1 rfl rfl)
theorem dX8_lasts_4 : decode cX8_lasts 4 = .ok (.ifCond .ne 5, 3) := dk_154 0 5 (dk_at dksX8_lasts_0 4 rfl rfl)
theorem dX8_lasts_7 : decode cX8_lasts 7 = .ok (.iconst (-1), 1) := dk_2 (dk_at dksX8_lasts_0 7 rfl rfl)
theorem dX8_lasts_8 : decode cX8_lasts 8 = .ok (.ireturn, 1) := dk_172 (dk_at dksX8_lasts_0 8 rfl rfl)
theorem dX8_lasts_9 : decode cX8_lasts 9 = .ok (.aload_n 0, 1) := dk_42 (dk_at dksX8_lasts_0 9 rfl rfl)
theorem dX8_lasts_10 : decode cX8_lasts 10 = .ok (.getfield 9, 3) := dk_180 0 9 (dk_at dksX8_lasts_0 10 rfl rfl)
theorem dX8_lasts_13 : decode cX8_lasts 13 = .ok (.iconst 0, 1) := dk_3 (dk_at dksX8_lasts_0 13 rfl rfl)
theorem dX8_lasts_14 : decode cX8_lasts 14 = .ok (.aload_n 0, 1) := dk_42 (dk_at dksX8_lasts_0 14 rfl rfl)
theorem dX8_lasts_15 : decode cX8_lasts 15 = .ok (.getfield 16, 3) := dk_180 0 16 (dk_at dksX8_lasts_0 15 rfl rfl)
theorem dX8_lasts_18 : decode cX8_lasts 18 = .ok (.iconst 0, 1) := dk_3 (dk_at dksX8_lasts_0 18 rfl rfl)
theorem dX8_lasts_19 : decode cX8_lasts 19 = .ok (.invokestatic 73, 3) := dk_184 0 73 (dk_at dksX8_lasts_0 19 rfl rfl)
theorem dX8_lasts_22 : decode cX8_lasts 22 = .ok (.iconst 0, 1) := dk_3 (dk_at dksX8_lasts_0 22 rfl rfl)
theorem dX8_lasts_23 : decode cX8_lasts 23 = .ok (.istore_n 2, 1) := dk_61 (dk_at dksX8_lasts_0 23 rfl rfl)
theorem dX8_lasts_24 : decode cX8_lasts 24 = .ok (.iload_n 2, 1) := dk_28 (dk_at dksX8_lasts_1 0 rfl rfl)
theorem dX8_lasts_25 : decode cX8_lasts 25 = .ok (.bipush 60, 2) := dk_16 60 (dk_at dksX8_lasts_1 1 rfl rfl)
theorem dX8_lasts_27 : decode cX8_lasts 27 = .ok (.if_icmp .gt 23, 3) := dk_163 0 23 (dk_at dksX8_lasts_1 3 rfl rfl)
theorem dX8_lasts_30 : decode cX8_lasts 30 = .ok (.aload_n 0, 1) := dk_42 (dk_at dksX8_lasts_1 6 rfl rfl)
theorem dX8_lasts_31 : decode cX8_lasts 31 = .ok (.iload_n 1, 1) := dk_27 (dk_at dksX8_lasts_1 7 rfl rfl)
theorem dX8_lasts_32 : decode cX8_lasts 32 = .ok (.iconst 0, 1) := dk_3 (dk_at dksX8_lasts_1 8 rfl rfl)
theorem dX8_lasts_33 : decode cX8_lasts 33 = .ok (.invokevirtual 178, 3) := dk_182 0 178 (dk_at dksX8_lasts_1 9 rfl rfl)
theorem dX8_lasts_36 : decode cX8_lasts 36 = .ok (.ifCond .le 14, 3) := dk_158 0 14 (dk_at dksX8_lasts_1 12 rfl rfl)
theorem dX8_lasts_39 : decode cX8_lasts 39 = .ok (.aload_n 0, 1) := dk_42 (dk_at dksX8_lasts_1 15 rfl rfl)
theorem dX8_lasts_40 : decode cX8_lasts 40 = .ok (.invokevirtual 219, 3) := dk_182 0 219 (dk_at dksX8_lasts_1 16 rfl rfl)
theorem dX8_lasts_43 : decode cX8_lasts 43 = .ok (.istore_n 3, 1) := dk_62 (dk_at dksX8_lasts_1 19 rfl rfl)
theorem dX8_lasts_44 : decode cX8_lasts 44 = .ok (.iinc 2 1, 3) := dk_132 2 1 (dk_at dksX8_lasts_1 20 rfl rfl)
theorem dX8_lasts_47 : decode cX8_lasts 47 = .ok (.goto (-23), 3) := dk_167 255 233 (dk_at dksX8_lasts_2 0 rfl rfl)
theorem dX8_lasts_50 : decode cX8_lasts 50 = .ok (.aload_n 0, 1) := dk_42 (dk_at dksX8_lasts_2 3 rfl rfl)
theorem dX8_lasts_51 : decode cX8_lasts 51 = .ok (.getfield 16, 3) := dk_180 0 16 (dk_at dksX8_lasts_2 4 rfl rfl)
theorem dX8_lasts_54 : decode cX8_lasts 54 = .ok (.iconst 0, 1) := dk_3 (dk_at dksX8_lasts_2 7 rfl rfl)
theorem dX8_lasts_55 : decode cX8_lasts 55 = .ok (.aload_n 0, 1) := dk_42 (dk_at dksX8_lasts_2 8 rfl rfl)
theorem dX8_lasts_56 : decode cX8_lasts 56 = .ok (.getfield 9, 3) := dk_180 0 9 (dk_at dksX8_lasts_2 9 rfl rfl)
theorem dX8_lasts_59 : decode cX8_lasts 59 = .ok (.iconst 0, 1) := dk_3 (dk_at dksX8_lasts_2 12 rfl rfl)
theorem dX8_lasts_60 : decode cX8_lasts 60 = .ok (.invokestatic 73, 3) := dk_184 0 73 (dk_at dksX8_lasts_2 13 rfl rfl)
theorem dX8_lasts_63 : decode cX8_lasts 63 = .ok (.iload_n 2, 1) := dk_28 (dk_at dksX8_lasts_2 16 rfl rfl)
theorem dX8_lasts_64 : decode cX8_lasts 64 = .ok (.bipush 60, 2) := dk_16 60 (dk_at dksX8_lasts_2 17 rfl rfl)
theorem dX8_lasts_66 : decode cX8_lasts 66 = .ok (.if_icmp .le 8, 3) := dk_164 0 8 (dk_at dksX8_lasts_2 19 rfl rfl)
theorem dX8_lasts_69 : decode cX8_lasts 69 = .ok (.bipush (-4), 2) := dk_16 252 (dk_at dksX8_lasts_2 22 rfl rfl)
theorem dX8_lasts_71 : decode cX8_lasts 71 = .ok (.goto 4, 3) := dk_167 0 4 (dk_at dksX8_lasts_3 0 rfl rfl)
theorem dX8_lasts_74 : decode cX8_lasts 74 = .ok (.iload_n 2, 1) := dk_28 (dk_at dksX8_lasts_3 3 rfl rfl)
theorem dX8_lasts_75 : decode cX8_lasts 75 = .ok (.ireturn, 1) := dk_172 (dk_at dksX8_lasts_3 4 rfl rfl)
def dkwX8_bestCat_3 : List UInt8 := [42, 2, 182, 0, 226, 29, 100, 184, 0, 229, 167, 0, 4, 28, 172]
abbrev dktX8_bestCat_3 : List UInt8 := dkwX8_bestCat_3 ++ []
def dkwX8_bestCat_2 : List UInt8 := [167, 0, 4, 28, 61, 29, 21, 5, 184, 0, 199, 62, 132, 4, 1, 167, 255, 218, 27, 4, 160, 0, 17, 3]
abbrev dktX8_bestCat_2 : List UInt8 := dkwX8_bestCat_2 ++ dktX8_bestCat_3
def dkwX8_bestCat_1 : List UInt8 := [21, 4, 16, 7, 162, 0, 37, 42, 21, 4, 182, 0, 226, 54, 5, 21, 5, 29, 162, 0, 8, 21, 4]
abbrev dktX8_bestCat_1 : List UInt8 := dkwX8_bestCat_1 ++ dktX8_bestCat_2
def dkwX8_bestCat_0 : List UInt8 := [27, 3, 4, 184, 0, 56, 154, 0, 6, 16, 254, 172, 3, 61, 42, 3, 182, 0, 226, 62, 4, 54, 4]
abbrev dktX8_bestCat_0 : List UInt8 := dkwX8_bestCat_0 ++ dktX8_bestCat_1
theorem dksX8_bestCat_0 : cX8_bestCat.data.toList.drop 0 = dktX8_bestCat_0 := by decide +kernel
theorem dksX8_bestCat_1 : cX8_bestCat.data.toList.drop 23 = dktX8_bestCat_1 := dk_seg dksX8_bestCat_0 23 rfl rfl
theorem dksX8_bestCat_2 : cX8_bestCat.data.toList.drop 46 = dktX8_bestCat_2 := dk_seg dksX8_bestCat_1 23 rfl rfl
theorem dksX8_bestCat_3 : cX8_bestCat.data.toList.drop 70 = dktX8_bestCat_3 := dk_seg dksX8_bestCat_2 24 rfl rfl
theorem dX8_bestCat_0 : decode cX8_bestCat 0 = .ok (.iload_n 1, 1) := dk_27 (dk_at dksX8_bestCat_0 0 rfl rfl)
theorem dX8_bestCat_1 : decode cX8_bestCat 1 = .ok (.iconst 0, 1) := dk_3 (dk_at dksX8_bestCat_0 1 rfl rfl)
theorem dX8_bestCat_2 : decode cX8_bestCat 2 = .ok (.iconst 1, 1) := dk_4 (dk_at dksX8_bestCat_0 2 rfl rfl)
theorem dX8_bestCat_3 : decode cX8_bestCat 3 = .ok (.invokestatic 56, 3) := dk_184 0 56 (dk_at dksX8_bestCat_0 3 rfl rfl)
theorem dX8_bestCat_6 : decode cX8_bestCat 6 = .ok (.ifCond .ne 6, 3) := dk_154 0 6 (dk_at dksX8_bestCat_0 6 rfl rfl)
theorem dX8_bestCat_9 : decode cX8_bestCat 9 = .ok (.bipush (-2), 2) := dk_16 254 (dk_at dksX8_bestCat_0 9 rfl rfl)
theorem dX8_bestCat_11 : decode cX8_bestCat 11 = .ok (.ireturn, 1) := dk_172 (dk_at dksX8_bestCat_0 11 rfl rfl)
theorem dX8_bestCat_12 : decode cX8_bestCat 12 = .ok (.iconst 0, 1) := dk_3 (dk_at dksX8_bestCat_0 12 rfl rfl)
theorem dX8_bestCat_13 : decode cX8_bestCat 13 = .ok (.istore_n 2, 1) := dk_61 (dk_at dksX8_bestCat_0 13 rfl rfl)
theorem dX8_bestCat_14 : decode cX8_bestCat 14 = .ok (.aload_n 0, 1) := dk_42 (dk_at dksX8_bestCat_0 14 rfl rfl)
theorem dX8_bestCat_15 : decode cX8_bestCat 15 = .ok (.iconst 0, 1) := dk_3 (dk_at dksX8_bestCat_0 15 rfl rfl)
theorem dX8_bestCat_16 : decode cX8_bestCat 16 = .ok (.invokevirtual 226, 3) := dk_182 0 226 (dk_at dksX8_bestCat_0 16 rfl rfl)
theorem dX8_bestCat_19 : decode cX8_bestCat 19 = .ok (.istore_n 3, 1) := dk_62 (dk_at dksX8_bestCat_0 19 rfl rfl)
theorem dX8_bestCat_20 : decode cX8_bestCat 20 = .ok (.iconst 1, 1) := dk_4 (dk_at dksX8_bestCat_0 20 rfl rfl)
theorem dX8_bestCat_21 : decode cX8_bestCat 21 = .ok (.istore 4, 2) := dk_54 4 (dk_at dksX8_bestCat_0 21 rfl rfl)
theorem dX8_bestCat_23 : decode cX8_bestCat 23 = .ok (.iload 4, 2) := dk_21 4 (dk_at dksX8_bestCat_1 0 rfl rfl)
theorem dX8_bestCat_25 : decode cX8_bestCat 25 = .ok (.bipush 7, 2) := dk_16 7 (dk_at dksX8_bestCat_1 2 rfl rfl)
theorem dX8_bestCat_27 : decode cX8_bestCat 27 = .ok (.if_icmp .ge 37, 3) := dk_162 0 37 (dk_at dksX8_bestCat_1 4 rfl rfl)
theorem dX8_bestCat_30 : decode cX8_bestCat 30 = .ok (.aload_n 0, 1) := dk_42 (dk_at dksX8_bestCat_1 7 rfl rfl)
theorem dX8_bestCat_31 : decode cX8_bestCat 31 = .ok (.iload 4, 2) := dk_21 4 (dk_at dksX8_bestCat_1 8 rfl rfl)
theorem dX8_bestCat_33 : decode cX8_bestCat 33 = .ok (.invokevirtual 226, 3) := dk_182 0 226 (dk_at dksX8_bestCat_1 10 rfl rfl)
theorem dX8_bestCat_36 : decode cX8_bestCat 36 = .ok (.istore 5, 2) := dk_54 5 (dk_at dksX8_bestCat_1 13 rfl rfl)
theorem dX8_bestCat_38 : decode cX8_bestCat 38 = .ok (.iload 5, 2) := dk_21 5 (dk_at dksX8_bestCat_1 15 rfl rfl)
theorem dX8_bestCat_40 : decode cX8_bestCat 40 = .ok (.iload_n 3, 1) := dk_29 (dk_at dksX8_bestCat_1 17 rfl rfl)
theorem dX8_bestCat_41 : decode cX8_bestCat 41 = .ok (.if_icmp .ge 8, 3) := dk_162 0 8 (dk_at dksX8_bestCat_1 18 rfl rfl)
theorem dX8_bestCat_44 : decode cX8_bestCat 44 = .ok (.iload 4, 2) := dk_21 4 (dk_at dksX8_bestCat_1 21 rfl rfl)
theorem dX8_bestCat_46 : decode cX8_bestCat 46 = .ok (.goto 4, 3) := dk_167 0 4 (dk_at dksX8_bestCat_2 0 rfl rfl)
theorem dX8_bestCat_49 : decode cX8_bestCat 49 = .ok (.iload_n 2, 1) := dk_28 (dk_at dksX8_bestCat_2 3 rfl rfl)
theorem dX8_bestCat_50 : decode cX8_bestCat 50 = .ok (.istore_n 2, 1) := dk_61 (dk_at dksX8_bestCat_2 4 rfl rfl)
theorem dX8_bestCat_51 : decode cX8_bestCat 51 = .ok (.iload_n 3, 1) := dk_29 (dk_at dksX8_bestCat_2 5 rfl rfl)
theorem dX8_bestCat_52 : decode cX8_bestCat 52 = .ok (.iload 5, 2) := dk_21 5 (dk_at dksX8_bestCat_2 6 rfl rfl)
theorem dX8_bestCat_54 : decode cX8_bestCat 54 = .ok (.invokestatic 199, 3) := dk_184 0 199 (dk_at dksX8_bestCat_2 8 rfl rfl)
theorem dX8_bestCat_57 : decode cX8_bestCat 57 = .ok (.istore_n 3, 1) := dk_62 (dk_at dksX8_bestCat_2 11 rfl rfl)
theorem dX8_bestCat_58 : decode cX8_bestCat 58 = .ok (.iinc 4 1, 3) := dk_132 4 1 (dk_at dksX8_bestCat_2 12 rfl rfl)
theorem dX8_bestCat_61 : decode cX8_bestCat 61 = .ok (.goto (-38), 3) := dk_167 255 218 (dk_at dksX8_bestCat_2 15 rfl rfl)
theorem dX8_bestCat_64 : decode cX8_bestCat 64 = .ok (.iload_n 1, 1) := dk_27 (dk_at dksX8_bestCat_2 18 rfl rfl)
theorem dX8_bestCat_65 : decode cX8_bestCat 65 = .ok (.iconst 1, 1) := dk_4 (dk_at dksX8_bestCat_2 19 rfl rfl)
theorem dX8_bestCat_66 : decode cX8_bestCat 66 = .ok (.if_icmp .ne 17, 3) := dk_160 0 17 (dk_at dksX8_bestCat_2 20 rfl rfl)
theorem dX8_bestCat_69 : decode cX8_bestCat 69 = .ok (.iconst 0, 1) := dk_3 (dk_at dksX8_bestCat_2 23 rfl rfl)
theorem dX8_bestCat_70 : decode cX8_bestCat 70 = .ok (.aload_n 0, 1) := dk_42 (dk_at dksX8_bestCat_3 0 rfl rfl)
theorem dX8_bestCat_71 : decode cX8_bestCat 71 = .ok (.iconst (-1), 1) := dk_2 (dk_at dksX8_bestCat_3 1 rfl rfl)
theorem dX8_bestCat_72 : decode cX8_bestCat 72 = .ok (.invokevirtual 226, 3) := dk_182 0 226 (dk_at dksX8_bestCat_3 2 rfl rfl)
theorem dX8_bestCat_75 : decode cX8_bestCat 75 = .ok (.iload_n 3, 1) := dk_29 (dk_at dksX8_bestCat_3 5 rfl rfl)
theorem dX8_bestCat_76 : decode cX8_bestCat 76 = .ok (.isub, 1) := dk_100 (dk_at dksX8_bestCat_3 6 rfl rfl)
theorem dX8_bestCat_77 : decode cX8_bestCat 77 = .ok (.invokestatic 229, 3) := dk_184 0 229 (dk_at dksX8_bestCat_3 7 rfl rfl)
theorem dX8_bestCat_80 : decode cX8_bestCat 80 = .ok (.goto 4, 3) := dk_167 0 4 (dk_at dksX8_bestCat_3 10 rfl rfl)
theorem dX8_bestCat_83 : decode cX8_bestCat 83 = .ok (.iload_n 2, 1) := dk_28 (dk_at dksX8_bestCat_3 13 rfl rfl)
theorem dX8_bestCat_84 : decode cX8_bestCat 84 = .ok (.ireturn, 1) := dk_172 (dk_at dksX8_bestCat_3 14 rfl rfl)
def dkwX8_eatenWith_3 : List UInt8 := [28, 172]
abbrev dktX8_eatenWith_3 : List UInt8 := dkwX8_eatenWith_3 ++ []
def dkwX8_eatenWith_2 : List UInt8 := [46, 42, 180, 0, 16, 17, 1, 176, 46, 100, 61, 42, 180, 0, 16, 3, 42, 180, 0, 9, 3, 184, 0, 73]
abbrev dktX8_eatenWith_2 : List UInt8 := dkwX8_eatenWith_2 ++ dktX8_eatenWith_3
def dkwX8_eatenWith_1 : List UInt8 := [28, 16, 10, 162, 0, 14, 42, 182, 0, 219, 62, 132, 2, 1, 167, 255, 242, 42, 180, 0, 9, 17, 1, 176]
abbrev dktX8_eatenWith_1 : List UInt8 := dkwX8_eatenWith_1 ++ dktX8_eatenWith_2
def dkwX8_eatenWith_0 : List UInt8 := [42, 180, 0, 9, 3, 42, 180, 0, 16, 3, 184, 0, 73, 42, 180, 0, 9, 17, 1, 171, 27, 79, 3, 61]
abbrev dktX8_eatenWith_0 : List UInt8 := dkwX8_eatenWith_0 ++ dktX8_eatenWith_1
theorem dksX8_eatenWith_0 : cX8_eatenWith.data.toList.drop 0 = dktX8_eatenWith_0 := by decide +kernel
theorem dksX8_eatenWith_1 : cX8_eatenWith.data.toList.drop 24 = dktX8_eatenWith_1 := dk_seg dksX8_eatenWith_0 24 rfl rfl
theorem dksX8_eatenWith_2 : cX8_eatenWith.data.toList.drop 48 = dktX8_eatenWith_2 := dk_seg dksX8_eatenWith_1 24 rfl rfl
theorem dksX8_eatenWith_3 : cX8_eatenWith.data.toList.drop 72 = dktX8_eatenWith_3 := dk_seg dksX8_eatenWith_2 24 rfl rfl
theorem dX8_eatenWith_0 : decode cX8_eatenWith 0 = .ok (.aload_n 0, 1) := dk_42 (dk_at dksX8_eatenWith_0 0 rfl rfl)
theorem dX8_eatenWith_1 : decode cX8_eatenWith 1 = .ok (.getfield 9, 3) := dk_180 0 9 (dk_at dksX8_eatenWith_0 1 rfl rfl)
theorem dX8_eatenWith_4 : decode cX8_eatenWith 4 = .ok (.iconst 0, 1) := dk_3 (dk_at dksX8_eatenWith_0 4 rfl rfl)
theorem dX8_eatenWith_5 : decode cX8_eatenWith 5 = .ok (.aload_n 0, 1) := dk_42 (dk_at dksX8_eatenWith_0 5 rfl rfl)
theorem dX8_eatenWith_6 : decode cX8_eatenWith 6 = .ok (.getfield 16, 3) := dk_180 0 16 (dk_at dksX8_eatenWith_0 6 rfl rfl)
theorem dX8_eatenWith_9 : decode cX8_eatenWith 9 = .ok (.iconst 0, 1) := dk_3 (dk_at dksX8_eatenWith_0 9 rfl rfl)
theorem dX8_eatenWith_10 : decode cX8_eatenWith 10 = .ok (.invokestatic 73, 3) := dk_184 0 73 (dk_at dksX8_eatenWith_0 10 rfl rfl)
theorem dX8_eatenWith_13 : decode cX8_eatenWith 13 = .ok (.aload_n 0, 1) := dk_42 (dk_at dksX8_eatenWith_0 13 rfl rfl)
theorem dX8_eatenWith_14 : decode cX8_eatenWith 14 = .ok (.getfield 9, 3) := dk_180 0 9 (dk_at dksX8_eatenWith_0 14 rfl rfl)
theorem dX8_eatenWith_17 : decode cX8_eatenWith 17 = .ok (.sipush 427, 3) := dk_17 1 171 (dk_at dksX8_eatenWith_0 17 rfl rfl)
theorem dX8_eatenWith_20 : decode cX8_eatenWith 20 = .ok (.iload_n 1, 1) := dk_27 (dk_at dksX8_eatenWith_0 20 rfl rfl)
theorem dX8_eatenWith_21 : decode cX8_eatenWith 21 = .ok (.iastore, 1) := dk_79 (dk_at dksX8_eatenWith_0 21 rfl rfl)
theorem dX8_eatenWith_22 : decode cX8_eatenWith 22 = .ok (.iconst 0, 1) := dk_3 (dk_at dksX8_eatenWith_0 22 rfl rfl)
theorem dX8_eatenWith_23 : decode cX8_eatenWith 23 = .ok (.istore_n 2, 1) := dk_61 (dk_at dksX8_eatenWith_0 23 rfl rfl)
theorem dX8_eatenWith_24 : decode cX8_eatenWith 24 = .ok (.iload_n 2, 1) := dk_28 (dk_at dksX8_eatenWith_1 0 rfl rfl)
theorem dX8_eatenWith_25 : decode cX8_eatenWith 25 = .ok (.bipush 10, 2) := dk_16 10 (dk_at dksX8_eatenWith_1 1 rfl rfl)
theorem dX8_eatenWith_27 : decode cX8_eatenWith 27 = .ok (.if_icmp .ge 14, 3) := dk_162 0 14 (dk_at dksX8_eatenWith_1 3 rfl rfl)
theorem dX8_eatenWith_30 : decode cX8_eatenWith 30 = .ok (.aload_n 0, 1) := dk_42 (dk_at dksX8_eatenWith_1 6 rfl rfl)
theorem dX8_eatenWith_31 : decode cX8_eatenWith 31 = .ok (.invokevirtual 219, 3) := dk_182 0 219 (dk_at dksX8_eatenWith_1 7 rfl rfl)
theorem dX8_eatenWith_34 : decode cX8_eatenWith 34 = .ok (.istore_n 3, 1) := dk_62 (dk_at dksX8_eatenWith_1 10 rfl rfl)
theorem dX8_eatenWith_35 : decode cX8_eatenWith 35 = .ok (.iinc 2 1, 3) := dk_132 2 1 (dk_at dksX8_eatenWith_1 11 rfl rfl)
theorem dX8_eatenWith_38 : decode cX8_eatenWith 38 = .ok (.goto (-14), 3) := dk_167 255 242 (dk_at dksX8_eatenWith_1 14 rfl rfl)
theorem dX8_eatenWith_41 : decode cX8_eatenWith 41 = .ok (.aload_n 0, 1) := dk_42 (dk_at dksX8_eatenWith_1 17 rfl rfl)
theorem dX8_eatenWith_42 : decode cX8_eatenWith 42 = .ok (.getfield 9, 3) := dk_180 0 9 (dk_at dksX8_eatenWith_1 18 rfl rfl)
theorem dX8_eatenWith_45 : decode cX8_eatenWith 45 = .ok (.sipush 432, 3) := dk_17 1 176 (dk_at dksX8_eatenWith_1 21 rfl rfl)
theorem dX8_eatenWith_48 : decode cX8_eatenWith 48 = .ok (.iaload, 1) := dk_46 (dk_at dksX8_eatenWith_2 0 rfl rfl)
theorem dX8_eatenWith_49 : decode cX8_eatenWith 49 = .ok (.aload_n 0, 1) := dk_42 (dk_at dksX8_eatenWith_2 1 rfl rfl)
theorem dX8_eatenWith_50 : decode cX8_eatenWith 50 = .ok (.getfield 16, 3) := dk_180 0 16 (dk_at dksX8_eatenWith_2 2 rfl rfl)
theorem dX8_eatenWith_53 : decode cX8_eatenWith 53 = .ok (.sipush 432, 3) := dk_17 1 176 (dk_at dksX8_eatenWith_2 5 rfl rfl)
theorem dX8_eatenWith_56 : decode cX8_eatenWith 56 = .ok (.iaload, 1) := dk_46 (dk_at dksX8_eatenWith_2 8 rfl rfl)
theorem dX8_eatenWith_57 : decode cX8_eatenWith 57 = .ok (.isub, 1) := dk_100 (dk_at dksX8_eatenWith_2 9 rfl rfl)
theorem dX8_eatenWith_58 : decode cX8_eatenWith 58 = .ok (.istore_n 2, 1) := dk_61 (dk_at dksX8_eatenWith_2 10 rfl rfl)
theorem dX8_eatenWith_59 : decode cX8_eatenWith 59 = .ok (.aload_n 0, 1) := dk_42 (dk_at dksX8_eatenWith_2 11 rfl rfl)
theorem dX8_eatenWith_60 : decode cX8_eatenWith 60 = .ok (.getfield 16, 3) := dk_180 0 16 (dk_at dksX8_eatenWith_2 12 rfl rfl)
theorem dX8_eatenWith_63 : decode cX8_eatenWith 63 = .ok (.iconst 0, 1) := dk_3 (dk_at dksX8_eatenWith_2 15 rfl rfl)
theorem dX8_eatenWith_64 : decode cX8_eatenWith 64 = .ok (.aload_n 0, 1) := dk_42 (dk_at dksX8_eatenWith_2 16 rfl rfl)
theorem dX8_eatenWith_65 : decode cX8_eatenWith 65 = .ok (.getfield 9, 3) := dk_180 0 9 (dk_at dksX8_eatenWith_2 17 rfl rfl)
theorem dX8_eatenWith_68 : decode cX8_eatenWith 68 = .ok (.iconst 0, 1) := dk_3 (dk_at dksX8_eatenWith_2 20 rfl rfl)
theorem dX8_eatenWith_69 : decode cX8_eatenWith 69 = .ok (.invokestatic 73, 3) := dk_184 0 73 (dk_at dksX8_eatenWith_2 21 rfl rfl)
theorem dX8_eatenWith_72 : decode cX8_eatenWith 72 = .ok (.iload_n 2, 1) := dk_28 (dk_at dksX8_eatenWith_3 0 rfl rfl)
theorem dX8_eatenWith_73 : decode cX8_eatenWith 73 = .ok (.ireturn, 1) := dk_172 (dk_at dksX8_eatenWith_3 1 rfl rfl)
def dkwX8_ranked_1 : List UInt8 := [167, 0, 4, 28, 61, 132, 3, 1, 167, 255, 228, 28, 172]
abbrev dktX8_ranked_1 : List UInt8 := dkwX8_ranked_1 ++ []
def dkwX8_ranked_0 : List UInt8 := [2, 61, 3, 62, 29, 42, 180, 0, 9, 3, 46, 162, 0, 24, 42, 29, 182, 0, 236, 27, 160, 0, 7, 29]
abbrev dktX8_ranked_0 : List UInt8 := dkwX8_ranked_0 ++ dktX8_ranked_1
theorem dksX8_ranked_0 : cX8_ranked.data.toList.drop 0 = dktX8_ranked_0 := by decide +kernel
theorem dksX8_ranked_1 : cX8_ranked.data.toList.drop 24 = dktX8_ranked_1 := dk_seg dksX8_ranked_0 24 rfl rfl
theorem dX8_ranked_0 : decode cX8_ranked 0 = .ok (.iconst (-1), 1) := dk_2 (dk_at dksX8_ranked_0 0 rfl rfl)
theorem dX8_ranked_1 : decode cX8_ranked 1 = .ok (.istore_n 2, 1) := dk_61 (dk_at dksX8_ranked_0 1 rfl rfl)
theorem dX8_ranked_2 : decode cX8_ranked 2 = .ok (.iconst 0, 1) := dk_3 (dk_at dksX8_ranked_0 2 rfl rfl)
theorem dX8_ranked_3 : decode cX8_ranked 3 = .ok (.istore_n 3, 1) := dk_62 (dk_at dksX8_ranked_0 3 rfl rfl)
theorem dX8_ranked_4 : decode cX8_ranked 4 = .ok (.iload_n 3, 1) := dk_29 (dk_at dksX8_ranked_0 4 rfl rfl)
theorem dX8_ranked_5 : decode cX8_ranked 5 = .ok (.aload_n 0, 1) := dk_42 (dk_at dksX8_ranked_0 5 rfl rfl)
theorem dX8_ranked_6 : decode cX8_ranked 6 = .ok (.getfield 9, 3) := dk_180 0 9 (dk_at dksX8_ranked_0 6 rfl rfl)
theorem dX8_ranked_9 : decode cX8_ranked 9 = .ok (.iconst 0, 1) := dk_3 (dk_at dksX8_ranked_0 9 rfl rfl)
theorem dX8_ranked_10 : decode cX8_ranked 10 = .ok (.iaload, 1) := dk_46 (dk_at dksX8_ranked_0 10 rfl rfl)
theorem dX8_ranked_11 : decode cX8_ranked 11 = .ok (.if_icmp .ge 24, 3) := dk_162 0 24 (dk_at dksX8_ranked_0 11 rfl rfl)
theorem dX8_ranked_14 : decode cX8_ranked 14 = .ok (.aload_n 0, 1) := dk_42 (dk_at dksX8_ranked_0 14 rfl rfl)
theorem dX8_ranked_15 : decode cX8_ranked 15 = .ok (.iload_n 3, 1) := dk_29 (dk_at dksX8_ranked_0 15 rfl rfl)
theorem dX8_ranked_16 : decode cX8_ranked 16 = .ok (.invokevirtual 236, 3) := dk_182 0 236 (dk_at dksX8_ranked_0 16 rfl rfl)
theorem dX8_ranked_19 : decode cX8_ranked 19 = .ok (.iload_n 1, 1) := dk_27 (dk_at dksX8_ranked_0 19 rfl rfl)
theorem dX8_ranked_20 : decode cX8_ranked 20 = .ok (.if_icmp .ne 7, 3) := dk_160 0 7 (dk_at dksX8_ranked_0 20 rfl rfl)
theorem dX8_ranked_23 : decode cX8_ranked 23 = .ok (.iload_n 3, 1) := dk_29 (dk_at dksX8_ranked_0 23 rfl rfl)
theorem dX8_ranked_24 : decode cX8_ranked 24 = .ok (.goto 4, 3) := dk_167 0 4 (dk_at dksX8_ranked_1 0 rfl rfl)
theorem dX8_ranked_27 : decode cX8_ranked 27 = .ok (.iload_n 2, 1) := dk_28 (dk_at dksX8_ranked_1 3 rfl rfl)
theorem dX8_ranked_28 : decode cX8_ranked 28 = .ok (.istore_n 2, 1) := dk_61 (dk_at dksX8_ranked_1 4 rfl rfl)
theorem dX8_ranked_29 : decode cX8_ranked 29 = .ok (.iinc 3 1, 3) := dk_132 3 1 (dk_at dksX8_ranked_1 5 rfl rfl)
theorem dX8_ranked_32 : decode cX8_ranked 32 = .ok (.goto (-28), 3) := dk_167 255 228 (dk_at dksX8_ranked_1 8 rfl rfl)
theorem dX8_ranked_35 : decode cX8_ranked 35 = .ok (.iload_n 2, 1) := dk_28 (dk_at dksX8_ranked_1 11 rfl rfl)
theorem dX8_ranked_36 : decode cX8_ranked 36 = .ok (.ireturn, 1) := dk_172 (dk_at dksX8_ranked_1 12 rfl rfl)
def dkwX8_rankOf_1 : List UInt8 := [182, 0, 232, 153, 0, 7, 4, 167, 0, 4, 3, 96, 61, 132, 3, 1, 167, 255, 221, 28, 172]
abbrev dktX8_rankOf_1 : List UInt8 := dkwX8_rankOf_1 ++ []
def dkwX8_rankOf_0 : List UInt8 := [3, 61, 3, 62, 29, 42, 180, 0, 9, 3, 46, 162, 0, 31, 28, 29, 27, 159, 0, 16, 42, 29, 27]
abbrev dktX8_rankOf_0 : List UInt8 := dkwX8_rankOf_0 ++ dktX8_rankOf_1
theorem dksX8_rankOf_0 : cX8_rankOf.data.toList.drop 0 = dktX8_rankOf_0 := by decide +kernel
theorem dksX8_rankOf_1 : cX8_rankOf.data.toList.drop 23 = dktX8_rankOf_1 := dk_seg dksX8_rankOf_0 23 rfl rfl
theorem dX8_rankOf_0 : decode cX8_rankOf 0 = .ok (.iconst 0, 1) := dk_3 (dk_at dksX8_rankOf_0 0 rfl rfl)
theorem dX8_rankOf_1 : decode cX8_rankOf 1 = .ok (.istore_n 2, 1) := dk_61 (dk_at dksX8_rankOf_0 1 rfl rfl)
theorem dX8_rankOf_2 : decode cX8_rankOf 2 = .ok (.iconst 0, 1) := dk_3 (dk_at dksX8_rankOf_0 2 rfl rfl)
theorem dX8_rankOf_3 : decode cX8_rankOf 3 = .ok (.istore_n 3, 1) := dk_62 (dk_at dksX8_rankOf_0 3 rfl rfl)
theorem dX8_rankOf_4 : decode cX8_rankOf 4 = .ok (.iload_n 3, 1) := dk_29 (dk_at dksX8_rankOf_0 4 rfl rfl)
theorem dX8_rankOf_5 : decode cX8_rankOf 5 = .ok (.aload_n 0, 1) := dk_42 (dk_at dksX8_rankOf_0 5 rfl rfl)
theorem dX8_rankOf_6 : decode cX8_rankOf 6 = .ok (.getfield 9, 3) := dk_180 0 9 (dk_at dksX8_rankOf_0 6 rfl rfl)
theorem dX8_rankOf_9 : decode cX8_rankOf 9 = .ok (.iconst 0, 1) := dk_3 (dk_at dksX8_rankOf_0 9 rfl rfl)
theorem dX8_rankOf_10 : decode cX8_rankOf 10 = .ok (.iaload, 1) := dk_46 (dk_at dksX8_rankOf_0 10 rfl rfl)
theorem dX8_rankOf_11 : decode cX8_rankOf 11 = .ok (.if_icmp .ge 31, 3) := dk_162 0 31 (dk_at dksX8_rankOf_0 11 rfl rfl)
theorem dX8_rankOf_14 : decode cX8_rankOf 14 = .ok (.iload_n 2, 1) := dk_28 (dk_at dksX8_rankOf_0 14 rfl rfl)
theorem dX8_rankOf_15 : decode cX8_rankOf 15 = .ok (.iload_n 3, 1) := dk_29 (dk_at dksX8_rankOf_0 15 rfl rfl)
theorem dX8_rankOf_16 : decode cX8_rankOf 16 = .ok (.iload_n 1, 1) := dk_27 (dk_at dksX8_rankOf_0 16 rfl rfl)
theorem dX8_rankOf_17 : decode cX8_rankOf 17 = .ok (.if_icmp .eq 16, 3) := dk_159 0 16 (dk_at dksX8_rankOf_0 17 rfl rfl)
theorem dX8_rankOf_20 : decode cX8_rankOf 20 = .ok (.aload_n 0, 1) := dk_42 (dk_at dksX8_rankOf_0 20 rfl rfl)
theorem dX8_rankOf_21 : decode cX8_rankOf 21 = .ok (.iload_n 3, 1) := dk_29 (dk_at dksX8_rankOf_0 21 rfl rfl)
theorem dX8_rankOf_22 : decode cX8_rankOf 22 = .ok (.iload_n 1, 1) := dk_27 (dk_at dksX8_rankOf_0 22 rfl rfl)
theorem dX8_rankOf_23 : decode cX8_rankOf 23 = .ok (.invokevirtual 232, 3) := dk_182 0 232 (dk_at dksX8_rankOf_1 0 rfl rfl)
theorem dX8_rankOf_26 : decode cX8_rankOf 26 = .ok (.ifCond .eq 7, 3) := dk_153 0 7 (dk_at dksX8_rankOf_1 3 rfl rfl)
theorem dX8_rankOf_29 : decode cX8_rankOf 29 = .ok (.iconst 1, 1) := dk_4 (dk_at dksX8_rankOf_1 6 rfl rfl)
theorem dX8_rankOf_30 : decode cX8_rankOf 30 = .ok (.goto 4, 3) := dk_167 0 4 (dk_at dksX8_rankOf_1 7 rfl rfl)
theorem dX8_rankOf_33 : decode cX8_rankOf 33 = .ok (.iconst 0, 1) := dk_3 (dk_at dksX8_rankOf_1 10 rfl rfl)
theorem dX8_rankOf_34 : decode cX8_rankOf 34 = .ok (.iadd, 1) := dk_96 (dk_at dksX8_rankOf_1 11 rfl rfl)
theorem dX8_rankOf_35 : decode cX8_rankOf 35 = .ok (.istore_n 2, 1) := dk_61 (dk_at dksX8_rankOf_1 12 rfl rfl)
theorem dX8_rankOf_36 : decode cX8_rankOf 36 = .ok (.iinc 3 1, 3) := dk_132 3 1 (dk_at dksX8_rankOf_1 13 rfl rfl)
theorem dX8_rankOf_39 : decode cX8_rankOf 39 = .ok (.goto (-35), 3) := dk_167 255 221 (dk_at dksX8_rankOf_1 16 rfl rfl)
theorem dX8_rankOf_42 : decode cX8_rankOf 42 = .ok (.iload_n 2, 1) := dk_28 (dk_at dksX8_rankOf_1 19 rfl rfl)
theorem dX8_rankOf_43 : decode cX8_rankOf 43 = .ok (.ireturn, 1) := dk_172 (dk_at dksX8_rankOf_1 20 rfl rfl)
def dkwX8_isAhead_3 : List UInt8 := [27, 28, 162, 0, 7, 4, 167, 0, 4, 3, 172]
abbrev dktX8_isAhead_3 : List UInt8 := dkwX8_isAhead_3 ++ []
def dkwX8_isAhead_2 : List UInt8 := [159, 0, 24, 42, 27, 182, 0, 125, 42, 28, 182, 0, 125, 164, 0, 7, 4, 167, 0, 17, 3, 167, 0, 13]
abbrev dktX8_isAhead_2 : List UInt8 := dkwX8_isAhead_2 ++ dktX8_isAhead_3
def dkwX8_isAhead_1 : List UInt8 := [182, 0, 89, 164, 0, 7, 4, 167, 0, 4, 3, 172, 42, 27, 182, 0, 125, 42, 28, 182, 0, 125]
abbrev dktX8_isAhead_1 : List UInt8 := dkwX8_isAhead_1 ++ dktX8_isAhead_2
def dkwX8_isAhead_0 : List UInt8 := [42, 27, 5, 182, 0, 89, 42, 28, 5, 182, 0, 89, 159, 0, 24, 42, 27, 5, 182, 0, 89, 42, 28, 5]
abbrev dktX8_isAhead_0 : List UInt8 := dkwX8_isAhead_0 ++ dktX8_isAhead_1
theorem dksX8_isAhead_0 : cX8_isAhead.data.toList.drop 0 = dktX8_isAhead_0 := by decide +kernel
theorem dksX8_isAhead_1 : cX8_isAhead.data.toList.drop 24 = dktX8_isAhead_1 := dk_seg dksX8_isAhead_0 24 rfl rfl
theorem dksX8_isAhead_2 : cX8_isAhead.data.toList.drop 46 = dktX8_isAhead_2 := dk_seg dksX8_isAhead_1 22 rfl rfl
theorem dksX8_isAhead_3 : cX8_isAhead.data.toList.drop 70 = dktX8_isAhead_3 := dk_seg dksX8_isAhead_2 24 rfl rfl
theorem dX8_isAhead_0 : decode cX8_isAhead 0 = .ok (.aload_n 0, 1) := dk_42 (dk_at dksX8_isAhead_0 0 rfl rfl)
theorem dX8_isAhead_1 : decode cX8_isAhead 1 = .ok (.iload_n 1, 1) := dk_27 (dk_at dksX8_isAhead_0 1 rfl rfl)
theorem dX8_isAhead_2 : decode cX8_isAhead 2 = .ok (.iconst 2, 1) := dk_5 (dk_at dksX8_isAhead_0 2 rfl rfl)
theorem dX8_isAhead_3 : decode cX8_isAhead 3 = .ok (.invokevirtual 89, 3) := dk_182 0 89 (dk_at dksX8_isAhead_0 3 rfl rfl)
theorem dX8_isAhead_6 : decode cX8_isAhead 6 = .ok (.aload_n 0, 1) := dk_42 (dk_at dksX8_isAhead_0 6 rfl rfl)
theorem dX8_isAhead_7 : decode cX8_isAhead 7 = .ok (.iload_n 2, 1) := dk_28 (dk_at dksX8_isAhead_0 7 rfl rfl)
theorem dX8_isAhead_8 : decode cX8_isAhead 8 = .ok (.iconst 2, 1) := dk_5 (dk_at dksX8_isAhead_0 8 rfl rfl)
theorem dX8_isAhead_9 : decode cX8_isAhead 9 = .ok (.invokevirtual 89, 3) := dk_182 0 89 (dk_at dksX8_isAhead_0 9 rfl rfl)
theorem dX8_isAhead_12 : decode cX8_isAhead 12 = .ok (.if_icmp .eq 24, 3) := dk_159 0 24 (dk_at dksX8_isAhead_0 12 rfl rfl)
theorem dX8_isAhead_15 : decode cX8_isAhead 15 = .ok (.aload_n 0, 1) := dk_42 (dk_at dksX8_isAhead_0 15 rfl rfl)
theorem dX8_isAhead_16 : decode cX8_isAhead 16 = .ok (.iload_n 1, 1) := dk_27 (dk_at dksX8_isAhead_0 16 rfl rfl)
theorem dX8_isAhead_17 : decode cX8_isAhead 17 = .ok (.iconst 2, 1) := dk_5 (dk_at dksX8_isAhead_0 17 rfl rfl)
theorem dX8_isAhead_18 : decode cX8_isAhead 18 = .ok (.invokevirtual 89, 3) := dk_182 0 89 (dk_at dksX8_isAhead_0 18 rfl rfl)
theorem dX8_isAhead_21 : decode cX8_isAhead 21 = .ok (.aload_n 0, 1) := dk_42 (dk_at dksX8_isAhead_0 21 rfl rfl)
theorem dX8_isAhead_22 : decode cX8_isAhead 22 = .ok (.iload_n 2, 1) := dk_28 (dk_at dksX8_isAhead_0 22 rfl rfl)
theorem dX8_isAhead_23 : decode cX8_isAhead 23 = .ok (.iconst 2, 1) := dk_5 (dk_at dksX8_isAhead_0 23 rfl rfl)
theorem dX8_isAhead_24 : decode cX8_isAhead 24 = .ok (.invokevirtual 89, 3) := dk_182 0 89 (dk_at dksX8_isAhead_1 0 rfl rfl)
theorem dX8_isAhead_27 : decode cX8_isAhead 27 = .ok (.if_icmp .le 7, 3) := dk_164 0 7 (dk_at dksX8_isAhead_1 3 rfl rfl)
theorem dX8_isAhead_30 : decode cX8_isAhead 30 = .ok (.iconst 1, 1) := dk_4 (dk_at dksX8_isAhead_1 6 rfl rfl)
theorem dX8_isAhead_31 : decode cX8_isAhead 31 = .ok (.goto 4, 3) := dk_167 0 4 (dk_at dksX8_isAhead_1 7 rfl rfl)
theorem dX8_isAhead_34 : decode cX8_isAhead 34 = .ok (.iconst 0, 1) := dk_3 (dk_at dksX8_isAhead_1 10 rfl rfl)
theorem dX8_isAhead_35 : decode cX8_isAhead 35 = .ok (.ireturn, 1) := dk_172 (dk_at dksX8_isAhead_1 11 rfl rfl)
theorem dX8_isAhead_36 : decode cX8_isAhead 36 = .ok (.aload_n 0, 1) := dk_42 (dk_at dksX8_isAhead_1 12 rfl rfl)
theorem dX8_isAhead_37 : decode cX8_isAhead 37 = .ok (.iload_n 1, 1) := dk_27 (dk_at dksX8_isAhead_1 13 rfl rfl)
theorem dX8_isAhead_38 : decode cX8_isAhead 38 = .ok (.invokevirtual 125, 3) := dk_182 0 125 (dk_at dksX8_isAhead_1 14 rfl rfl)
theorem dX8_isAhead_41 : decode cX8_isAhead 41 = .ok (.aload_n 0, 1) := dk_42 (dk_at dksX8_isAhead_1 17 rfl rfl)
theorem dX8_isAhead_42 : decode cX8_isAhead 42 = .ok (.iload_n 2, 1) := dk_28 (dk_at dksX8_isAhead_1 18 rfl rfl)
theorem dX8_isAhead_43 : decode cX8_isAhead 43 = .ok (.invokevirtual 125, 3) := dk_182 0 125 (dk_at dksX8_isAhead_1 19 rfl rfl)
theorem dX8_isAhead_46 : decode cX8_isAhead 46 = .ok (.if_icmp .eq 24, 3) := dk_159 0 24 (dk_at dksX8_isAhead_2 0 rfl rfl)
theorem dX8_isAhead_49 : decode cX8_isAhead 49 = .ok (.aload_n 0, 1) := dk_42 (dk_at dksX8_isAhead_2 3 rfl rfl)
theorem dX8_isAhead_50 : decode cX8_isAhead 50 = .ok (.iload_n 1, 1) := dk_27 (dk_at dksX8_isAhead_2 4 rfl rfl)
theorem dX8_isAhead_51 : decode cX8_isAhead 51 = .ok (.invokevirtual 125, 3) := dk_182 0 125 (dk_at dksX8_isAhead_2 5 rfl rfl)
theorem dX8_isAhead_54 : decode cX8_isAhead 54 = .ok (.aload_n 0, 1) := dk_42 (dk_at dksX8_isAhead_2 8 rfl rfl)
theorem dX8_isAhead_55 : decode cX8_isAhead 55 = .ok (.iload_n 2, 1) := dk_28 (dk_at dksX8_isAhead_2 9 rfl rfl)
theorem dX8_isAhead_56 : decode cX8_isAhead 56 = .ok (.invokevirtual 125, 3) := dk_182 0 125 (dk_at dksX8_isAhead_2 10 rfl rfl)
theorem dX8_isAhead_59 : decode cX8_isAhead 59 = .ok (.if_icmp .le 7, 3) := dk_164 0 7 (dk_at dksX8_isAhead_2 13 rfl rfl)
theorem dX8_isAhead_62 : decode cX8_isAhead 62 = .ok (.iconst 1, 1) := dk_4 (dk_at dksX8_isAhead_2 16 rfl rfl)
theorem dX8_isAhead_63 : decode cX8_isAhead 63 = .ok (.goto 17, 3) := dk_167 0 17 (dk_at dksX8_isAhead_2 17 rfl rfl)
theorem dX8_isAhead_66 : decode cX8_isAhead 66 = .ok (.iconst 0, 1) := dk_3 (dk_at dksX8_isAhead_2 20 rfl rfl)
theorem dX8_isAhead_67 : decode cX8_isAhead 67 = .ok (.goto 13, 3) := dk_167 0 13 (dk_at dksX8_isAhead_2 21 rfl rfl)
theorem dX8_isAhead_70 : decode cX8_isAhead 70 = .ok (.iload_n 1, 1) := dk_27 (dk_at dksX8_isAhead_3 0 rfl rfl)
theorem dX8_isAhead_71 : decode cX8_isAhead 71 = .ok (.iload_n 2, 1) := dk_28 (dk_at dksX8_isAhead_3 1 rfl rfl)
theorem dX8_isAhead_72 : decode cX8_isAhead 72 = .ok (.if_icmp .ge 7, 3) := dk_162 0 7 (dk_at dksX8_isAhead_3 2 rfl rfl)
theorem dX8_isAhead_75 : decode cX8_isAhead 75 = .ok (.iconst 1, 1) := dk_4 (dk_at dksX8_isAhead_3 5 rfl rfl)
theorem dX8_isAhead_76 : decode cX8_isAhead 76 = .ok (.goto 4, 3) := dk_167 0 4 (dk_at dksX8_isAhead_3 6 rfl rfl)
theorem dX8_isAhead_79 : decode cX8_isAhead 79 = .ok (.iconst 0, 1) := dk_3 (dk_at dksX8_isAhead_3 9 rfl rfl)
theorem dX8_isAhead_80 : decode cX8_isAhead 80 = .ok (.ireturn, 1) := dk_172 (dk_at dksX8_isAhead_3 10 rfl rfl)
def dkwX8_parishOf_4 : List UInt8 := [172, 42, 27, 6, 182, 0, 89, 172, 42, 27, 182, 0, 239, 172, 42, 27, 182, 0, 236, 172, 16, 254, 172]
abbrev dktX8_parishOf_4 : List UInt8 := dkwX8_parishOf_4 ++ []
def dkwX8_parishOf_3 : List UInt8 := [182, 0, 89, 172, 42, 27, 7, 182, 0, 89, 154, 0, 8, 16, 252, 167, 0, 9, 42, 27, 8, 182, 0, 89]
abbrev dktX8_parishOf_3 : List UInt8 := dkwX8_parishOf_3 ++ dktX8_parishOf_4
def dkwX8_parishOf_2 : List UInt8 := [42, 27, 28, 182, 0, 89, 172, 42, 27, 182, 0, 125, 172, 42, 27, 5, 182, 0, 89, 172, 42, 27, 7]
abbrev dktX8_parishOf_2 : List UInt8 := dkwX8_parishOf_2 ++ dktX8_parishOf_3
def dkwX8_parishOf_1 : List UInt8 := [170, 0, 0, 0, 116, 0, 0, 0, 0, 0, 0, 0, 8, 0, 0, 0, 49, 0, 0, 0, 49, 0, 0, 0, 56, 0, 0, 0, 62, 0, 0, 0, 69, 0, 0, 0, 76, 0, 0, 0, 97, 0, 0, 0, 104, 0, 0, 0, 110]
abbrev dktX8_parishOf_1 : List UInt8 := dkwX8_parishOf_1 ++ dktX8_parishOf_2
def dkwX8_parishOf_0 : List UInt8 := [42, 27, 182, 0, 107, 154, 0, 5, 2, 172, 28]
abbrev dktX8_parishOf_0 : List UInt8 := dkwX8_parishOf_0 ++ dktX8_parishOf_1
theorem dksX8_parishOf_0 : cX8_parishOf.data.toList.drop 0 = dktX8_parishOf_0 := by decide +kernel
theorem dksX8_parishOf_1 : cX8_parishOf.data.toList.drop 11 = dktX8_parishOf_1 := dk_seg dksX8_parishOf_0 11 rfl rfl
theorem dksX8_parishOf_2 : cX8_parishOf.data.toList.drop 60 = dktX8_parishOf_2 := dk_seg dksX8_parishOf_1 49 rfl rfl
theorem dksX8_parishOf_3 : cX8_parishOf.data.toList.drop 83 = dktX8_parishOf_3 := dk_seg dksX8_parishOf_2 23 rfl rfl
theorem dksX8_parishOf_4 : cX8_parishOf.data.toList.drop 107 = dktX8_parishOf_4 := dk_seg dksX8_parishOf_3 24 rfl rfl
theorem dX8_parishOf_0 : decode cX8_parishOf 0 = .ok (.aload_n 0, 1) := dk_42 (dk_at dksX8_parishOf_0 0 rfl rfl)
theorem dX8_parishOf_1 : decode cX8_parishOf 1 = .ok (.iload_n 1, 1) := dk_27 (dk_at dksX8_parishOf_0 1 rfl rfl)
theorem dX8_parishOf_2 : decode cX8_parishOf 2 = .ok (.invokevirtual 107, 3) := dk_182 0 107 (dk_at dksX8_parishOf_0 2 rfl rfl)
theorem dX8_parishOf_5 : decode cX8_parishOf 5 = .ok (.ifCond .ne 5, 3) := dk_154 0 5 (dk_at dksX8_parishOf_0 5 rfl rfl)
theorem dX8_parishOf_8 : decode cX8_parishOf 8 = .ok (.iconst (-1), 1) := dk_2 (dk_at dksX8_parishOf_0 8 rfl rfl)
theorem dX8_parishOf_9 : decode cX8_parishOf 9 = .ok (.ireturn, 1) := dk_172 (dk_at dksX8_parishOf_0 9 rfl rfl)
theorem dX8_parishOf_10 : decode cX8_parishOf 10 = .ok (.iload_n 2, 1) := dk_28 (dk_at dksX8_parishOf_0 10 rfl rfl)
theorem dX8_parishOf_11 : decode cX8_parishOf 11 = .ok (.tableswitch 116 0 8 #[49, 49, 56, 62, 69, 76, 97, 104, 110], 49) := by decide +kernel
theorem dX8_parishOf_60 : decode cX8_parishOf 60 = .ok (.aload_n 0, 1) := dk_42 (dk_at dksX8_parishOf_2 0 rfl rfl)
theorem dX8_parishOf_61 : decode cX8_parishOf 61 = .ok (.iload_n 1, 1) := dk_27 (dk_at dksX8_parishOf_2 1 rfl rfl)
theorem dX8_parishOf_62 : decode cX8_parishOf 62 = .ok (.iload_n 2, 1) := dk_28 (dk_at dksX8_parishOf_2 2 rfl rfl)
theorem dX8_parishOf_63 : decode cX8_parishOf 63 = .ok (.invokevirtual 89, 3) := dk_182 0 89 (dk_at dksX8_parishOf_2 3 rfl rfl)
theorem dX8_parishOf_66 : decode cX8_parishOf 66 = .ok (.ireturn, 1) := dk_172 (dk_at dksX8_parishOf_2 6 rfl rfl)
theorem dX8_parishOf_67 : decode cX8_parishOf 67 = .ok (.aload_n 0, 1) := dk_42 (dk_at dksX8_parishOf_2 7 rfl rfl)
theorem dX8_parishOf_68 : decode cX8_parishOf 68 = .ok (.iload_n 1, 1) := dk_27 (dk_at dksX8_parishOf_2 8 rfl rfl)
theorem dX8_parishOf_69 : decode cX8_parishOf 69 = .ok (.invokevirtual 125, 3) := dk_182 0 125 (dk_at dksX8_parishOf_2 9 rfl rfl)
theorem dX8_parishOf_72 : decode cX8_parishOf 72 = .ok (.ireturn, 1) := dk_172 (dk_at dksX8_parishOf_2 12 rfl rfl)
theorem dX8_parishOf_73 : decode cX8_parishOf 73 = .ok (.aload_n 0, 1) := dk_42 (dk_at dksX8_parishOf_2 13 rfl rfl)
theorem dX8_parishOf_74 : decode cX8_parishOf 74 = .ok (.iload_n 1, 1) := dk_27 (dk_at dksX8_parishOf_2 14 rfl rfl)
theorem dX8_parishOf_75 : decode cX8_parishOf 75 = .ok (.iconst 2, 1) := dk_5 (dk_at dksX8_parishOf_2 15 rfl rfl)
theorem dX8_parishOf_76 : decode cX8_parishOf 76 = .ok (.invokevirtual 89, 3) := dk_182 0 89 (dk_at dksX8_parishOf_2 16 rfl rfl)
theorem dX8_parishOf_79 : decode cX8_parishOf 79 = .ok (.ireturn, 1) := dk_172 (dk_at dksX8_parishOf_2 19 rfl rfl)
theorem dX8_parishOf_80 : decode cX8_parishOf 80 = .ok (.aload_n 0, 1) := dk_42 (dk_at dksX8_parishOf_2 20 rfl rfl)
theorem dX8_parishOf_81 : decode cX8_parishOf 81 = .ok (.iload_n 1, 1) := dk_27 (dk_at dksX8_parishOf_2 21 rfl rfl)
theorem dX8_parishOf_82 : decode cX8_parishOf 82 = .ok (.iconst 4, 1) := dk_7 (dk_at dksX8_parishOf_2 22 rfl rfl)
theorem dX8_parishOf_83 : decode cX8_parishOf 83 = .ok (.invokevirtual 89, 3) := dk_182 0 89 (dk_at dksX8_parishOf_3 0 rfl rfl)
theorem dX8_parishOf_86 : decode cX8_parishOf 86 = .ok (.ireturn, 1) := dk_172 (dk_at dksX8_parishOf_3 3 rfl rfl)
theorem dX8_parishOf_87 : decode cX8_parishOf 87 = .ok (.aload_n 0, 1) := dk_42 (dk_at dksX8_parishOf_3 4 rfl rfl)
theorem dX8_parishOf_88 : decode cX8_parishOf 88 = .ok (.iload_n 1, 1) := dk_27 (dk_at dksX8_parishOf_3 5 rfl rfl)
theorem dX8_parishOf_89 : decode cX8_parishOf 89 = .ok (.iconst 4, 1) := dk_7 (dk_at dksX8_parishOf_3 6 rfl rfl)
theorem dX8_parishOf_90 : decode cX8_parishOf 90 = .ok (.invokevirtual 89, 3) := dk_182 0 89 (dk_at dksX8_parishOf_3 7 rfl rfl)
theorem dX8_parishOf_93 : decode cX8_parishOf 93 = .ok (.ifCond .ne 8, 3) := dk_154 0 8 (dk_at dksX8_parishOf_3 10 rfl rfl)
theorem dX8_parishOf_96 : decode cX8_parishOf 96 = .ok (.bipush (-4), 2) := dk_16 252 (dk_at dksX8_parishOf_3 13 rfl rfl)
theorem dX8_parishOf_98 : decode cX8_parishOf 98 = .ok (.goto 9, 3) := dk_167 0 9 (dk_at dksX8_parishOf_3 15 rfl rfl)
theorem dX8_parishOf_101 : decode cX8_parishOf 101 = .ok (.aload_n 0, 1) := dk_42 (dk_at dksX8_parishOf_3 18 rfl rfl)
theorem dX8_parishOf_102 : decode cX8_parishOf 102 = .ok (.iload_n 1, 1) := dk_27 (dk_at dksX8_parishOf_3 19 rfl rfl)
theorem dX8_parishOf_103 : decode cX8_parishOf 103 = .ok (.iconst 5, 1) := dk_8 (dk_at dksX8_parishOf_3 20 rfl rfl)
theorem dX8_parishOf_104 : decode cX8_parishOf 104 = .ok (.invokevirtual 89, 3) := dk_182 0 89 (dk_at dksX8_parishOf_3 21 rfl rfl)
theorem dX8_parishOf_107 : decode cX8_parishOf 107 = .ok (.ireturn, 1) := dk_172 (dk_at dksX8_parishOf_4 0 rfl rfl)
theorem dX8_parishOf_108 : decode cX8_parishOf 108 = .ok (.aload_n 0, 1) := dk_42 (dk_at dksX8_parishOf_4 1 rfl rfl)
theorem dX8_parishOf_109 : decode cX8_parishOf 109 = .ok (.iload_n 1, 1) := dk_27 (dk_at dksX8_parishOf_4 2 rfl rfl)
theorem dX8_parishOf_110 : decode cX8_parishOf 110 = .ok (.iconst 3, 1) := dk_6 (dk_at dksX8_parishOf_4 3 rfl rfl)
theorem dX8_parishOf_111 : decode cX8_parishOf 111 = .ok (.invokevirtual 89, 3) := dk_182 0 89 (dk_at dksX8_parishOf_4 4 rfl rfl)
theorem dX8_parishOf_114 : decode cX8_parishOf 114 = .ok (.ireturn, 1) := dk_172 (dk_at dksX8_parishOf_4 7 rfl rfl)
theorem dX8_parishOf_115 : decode cX8_parishOf 115 = .ok (.aload_n 0, 1) := dk_42 (dk_at dksX8_parishOf_4 8 rfl rfl)
theorem dX8_parishOf_116 : decode cX8_parishOf 116 = .ok (.iload_n 1, 1) := dk_27 (dk_at dksX8_parishOf_4 9 rfl rfl)
theorem dX8_parishOf_117 : decode cX8_parishOf 117 = .ok (.invokevirtual 239, 3) := dk_182 0 239 (dk_at dksX8_parishOf_4 10 rfl rfl)
theorem dX8_parishOf_120 : decode cX8_parishOf 120 = .ok (.ireturn, 1) := dk_172 (dk_at dksX8_parishOf_4 13 rfl rfl)
theorem dX8_parishOf_121 : decode cX8_parishOf 121 = .ok (.aload_n 0, 1) := dk_42 (dk_at dksX8_parishOf_4 14 rfl rfl)
theorem dX8_parishOf_122 : decode cX8_parishOf 122 = .ok (.iload_n 1, 1) := dk_27 (dk_at dksX8_parishOf_4 15 rfl rfl)
theorem dX8_parishOf_123 : decode cX8_parishOf 123 = .ok (.invokevirtual 236, 3) := dk_182 0 236 (dk_at dksX8_parishOf_4 16 rfl rfl)
theorem dX8_parishOf_126 : decode cX8_parishOf 126 = .ok (.ireturn, 1) := dk_172 (dk_at dksX8_parishOf_4 19 rfl rfl)
theorem dX8_parishOf_127 : decode cX8_parishOf 127 = .ok (.bipush (-2), 2) := dk_16 254 (dk_at dksX8_parishOf_4 20 rfl rfl)
theorem dX8_parishOf_129 : decode cX8_parishOf 129 = .ok (.ireturn, 1) := dk_172 (dk_at dksX8_parishOf_4 22 rfl rfl)
def dkwX8_inBays_2 : List UInt8 := [132, 3, 1, 167, 255, 210, 28, 172]
abbrev dktX8_inBays_2 : List UInt8 := dkwX8_inBays_2 ++ []
def dkwX8_inBays_1 : List UInt8 := [29, 21, 4, 182, 0, 119, 27, 160, 0, 7, 4, 167, 0, 4, 3, 96, 61, 132, 4, 1, 167, 255, 224]
abbrev dktX8_inBays_1 : List UInt8 := dkwX8_inBays_1 ++ dktX8_inBays_2
def dkwX8_inBays_0 : List UInt8 := [3, 61, 3, 62, 29, 7, 162, 0, 47, 3, 54, 4, 21, 4, 42, 29, 182, 0, 128, 162, 0, 28, 28, 42]
abbrev dktX8_inBays_0 : List UInt8 := dkwX8_inBays_0 ++ dktX8_inBays_1
theorem dksX8_inBays_0 : cX8_inBays.data.toList.drop 0 = dktX8_inBays_0 := by decide +kernel
theorem dksX8_inBays_1 : cX8_inBays.data.toList.drop 24 = dktX8_inBays_1 := dk_seg dksX8_inBays_0 24 rfl rfl
theorem dksX8_inBays_2 : cX8_inBays.data.toList.drop 47 = dktX8_inBays_2 := dk_seg dksX8_inBays_1 23 rfl rfl
theorem dX8_inBays_0 : decode cX8_inBays 0 = .ok (.iconst 0, 1) := dk_3 (dk_at dksX8_inBays_0 0 rfl rfl)
theorem dX8_inBays_1 : decode cX8_inBays 1 = .ok (.istore_n 2, 1) := dk_61 (dk_at dksX8_inBays_0 1 rfl rfl)
theorem dX8_inBays_2 : decode cX8_inBays 2 = .ok (.iconst 0, 1) := dk_3 (dk_at dksX8_inBays_0 2 rfl rfl)
theorem dX8_inBays_3 : decode cX8_inBays 3 = .ok (.istore_n 3, 1) := dk_62 (dk_at dksX8_inBays_0 3 rfl rfl)
theorem dX8_inBays_4 : decode cX8_inBays 4 = .ok (.iload_n 3, 1) := dk_29 (dk_at dksX8_inBays_0 4 rfl rfl)
theorem dX8_inBays_5 : decode cX8_inBays 5 = .ok (.iconst 4, 1) := dk_7 (dk_at dksX8_inBays_0 5 rfl rfl)
theorem dX8_inBays_6 : decode cX8_inBays 6 = .ok (.if_icmp .ge 47, 3) := dk_162 0 47 (dk_at dksX8_inBays_0 6 rfl rfl)
theorem dX8_inBays_9 : decode cX8_inBays 9 = .ok (.iconst 0, 1) := dk_3 (dk_at dksX8_inBays_0 9 rfl rfl)
theorem dX8_inBays_10 : decode cX8_inBays 10 = .ok (.istore 4, 2) := dk_54 4 (dk_at dksX8_inBays_0 10 rfl rfl)
theorem dX8_inBays_12 : decode cX8_inBays 12 = .ok (.iload 4, 2) := dk_21 4 (dk_at dksX8_inBays_0 12 rfl rfl)
theorem dX8_inBays_14 : decode cX8_inBays 14 = .ok (.aload_n 0, 1) := dk_42 (dk_at dksX8_inBays_0 14 rfl rfl)
theorem dX8_inBays_15 : decode cX8_inBays 15 = .ok (.iload_n 3, 1) := dk_29 (dk_at dksX8_inBays_0 15 rfl rfl)
theorem dX8_inBays_16 : decode cX8_inBays 16 = .ok (.invokevirtual 128, 3) := dk_182 0 128 (dk_at dksX8_inBays_0 16 rfl rfl)
theorem dX8_inBays_19 : decode cX8_inBays 19 = .ok (.if_icmp .ge 28, 3) := dk_162 0 28 (dk_at dksX8_inBays_0 19 rfl rfl)
theorem dX8_inBays_22 : decode cX8_inBays 22 = .ok (.iload_n 2, 1) := dk_28 (dk_at dksX8_inBays_0 22 rfl rfl)
theorem dX8_inBays_23 : decode cX8_inBays 23 = .ok (.aload_n 0, 1) := dk_42 (dk_at dksX8_inBays_0 23 rfl rfl)
theorem dX8_inBays_24 : decode cX8_inBays 24 = .ok (.iload_n 3, 1) := dk_29 (dk_at dksX8_inBays_1 0 rfl rfl)
theorem dX8_inBays_25 : decode cX8_inBays 25 = .ok (.iload 4, 2) := dk_21 4 (dk_at dksX8_inBays_1 1 rfl rfl)
theorem dX8_inBays_27 : decode cX8_inBays 27 = .ok (.invokevirtual 119, 3) := dk_182 0 119 (dk_at dksX8_inBays_1 3 rfl rfl)
theorem dX8_inBays_30 : decode cX8_inBays 30 = .ok (.iload_n 1, 1) := dk_27 (dk_at dksX8_inBays_1 6 rfl rfl)
theorem dX8_inBays_31 : decode cX8_inBays 31 = .ok (.if_icmp .ne 7, 3) := dk_160 0 7 (dk_at dksX8_inBays_1 7 rfl rfl)
theorem dX8_inBays_34 : decode cX8_inBays 34 = .ok (.iconst 1, 1) := dk_4 (dk_at dksX8_inBays_1 10 rfl rfl)
theorem dX8_inBays_35 : decode cX8_inBays 35 = .ok (.goto 4, 3) := dk_167 0 4 (dk_at dksX8_inBays_1 11 rfl rfl)
theorem dX8_inBays_38 : decode cX8_inBays 38 = .ok (.iconst 0, 1) := dk_3 (dk_at dksX8_inBays_1 14 rfl rfl)
theorem dX8_inBays_39 : decode cX8_inBays 39 = .ok (.iadd, 1) := dk_96 (dk_at dksX8_inBays_1 15 rfl rfl)
theorem dX8_inBays_40 : decode cX8_inBays 40 = .ok (.istore_n 2, 1) := dk_61 (dk_at dksX8_inBays_1 16 rfl rfl)
theorem dX8_inBays_41 : decode cX8_inBays 41 = .ok (.iinc 4 1, 3) := dk_132 4 1 (dk_at dksX8_inBays_1 17 rfl rfl)
theorem dX8_inBays_44 : decode cX8_inBays 44 = .ok (.goto (-32), 3) := dk_167 255 224 (dk_at dksX8_inBays_1 20 rfl rfl)
theorem dX8_inBays_47 : decode cX8_inBays 47 = .ok (.iinc 3 1, 3) := dk_132 3 1 (dk_at dksX8_inBays_2 0 rfl rfl)
theorem dX8_inBays_50 : decode cX8_inBays 50 = .ok (.goto (-46), 3) := dk_167 255 210 (dk_at dksX8_inBays_2 3 rfl rfl)
theorem dX8_inBays_53 : decode cX8_inBays 53 = .ok (.iload_n 2, 1) := dk_28 (dk_at dksX8_inBays_2 6 rfl rfl)
theorem dX8_inBays_54 : decode cX8_inBays 54 = .ok (.ireturn, 1) := dk_172 (dk_at dksX8_inBays_2 7 rfl rfl)
def dkwX8_grain_3 : List UInt8 := [42, 180, 0, 9, 17, 1, 176, 46, 172, 16, 254, 172]
abbrev dktX8_grain_3 : List UInt8 := dkwX8_grain_3 ++ []
def dkwX8_grain_2 : List UInt8 := [42, 180, 0, 9, 17, 1, 174, 46, 172, 42, 27, 182, 0, 242, 172, 42, 180, 0, 9, 17, 1, 175, 46, 172]
abbrev dktX8_grain_2 : List UInt8 := dkwX8_grain_2 ++ dktX8_grain_3
def dkwX8_grain_1 : List UInt8 := [170, 0, 0, 0, 0, 0, 72, 0, 0, 0, 0, 0, 0, 0, 5, 0, 0, 0, 39, 0, 0, 0, 48, 0, 0, 0, 48, 0, 0, 0, 48, 0, 0, 0, 54, 0, 0, 0, 63]
abbrev dktX8_grain_1 : List UInt8 := dkwX8_grain_1 ++ dktX8_grain_2
def dkwX8_grain_0 : List UInt8 := [27]
abbrev dktX8_grain_0 : List UInt8 := dkwX8_grain_0 ++ dktX8_grain_1
theorem dksX8_grain_0 : cX8_grain.data.toList.drop 0 = dktX8_grain_0 := by decide +kernel
theorem dksX8_grain_1 : cX8_grain.data.toList.drop 1 = dktX8_grain_1 := dk_seg dksX8_grain_0 1 rfl rfl
theorem dksX8_grain_2 : cX8_grain.data.toList.drop 40 = dktX8_grain_2 := dk_seg dksX8_grain_1 39 rfl rfl
theorem dksX8_grain_3 : cX8_grain.data.toList.drop 64 = dktX8_grain_3 := dk_seg dksX8_grain_2 24 rfl rfl
theorem dX8_grain_0 : decode cX8_grain 0 = .ok (.iload_n 1, 1) := dk_27 (dk_at dksX8_grain_0 0 rfl rfl)
theorem dX8_grain_1 : decode cX8_grain 1 = .ok (.tableswitch 72 0 5 #[39, 48, 48, 48, 54, 63], 39) := by decide +kernel
theorem dX8_grain_40 : decode cX8_grain 40 = .ok (.aload_n 0, 1) := dk_42 (dk_at dksX8_grain_2 0 rfl rfl)
theorem dX8_grain_41 : decode cX8_grain 41 = .ok (.getfield 9, 3) := dk_180 0 9 (dk_at dksX8_grain_2 1 rfl rfl)
theorem dX8_grain_44 : decode cX8_grain 44 = .ok (.sipush 430, 3) := dk_17 1 174 (dk_at dksX8_grain_2 4 rfl rfl)
theorem dX8_grain_47 : decode cX8_grain 47 = .ok (.iaload, 1) := dk_46 (dk_at dksX8_grain_2 7 rfl rfl)
theorem dX8_grain_48 : decode cX8_grain 48 = .ok (.ireturn, 1) := dk_172 (dk_at dksX8_grain_2 8 rfl rfl)
theorem dX8_grain_49 : decode cX8_grain 49 = .ok (.aload_n 0, 1) := dk_42 (dk_at dksX8_grain_2 9 rfl rfl)
theorem dX8_grain_50 : decode cX8_grain 50 = .ok (.iload_n 1, 1) := dk_27 (dk_at dksX8_grain_2 10 rfl rfl)
theorem dX8_grain_51 : decode cX8_grain 51 = .ok (.invokevirtual 242, 3) := dk_182 0 242 (dk_at dksX8_grain_2 11 rfl rfl)
theorem dX8_grain_54 : decode cX8_grain 54 = .ok (.ireturn, 1) := dk_172 (dk_at dksX8_grain_2 14 rfl rfl)
theorem dX8_grain_55 : decode cX8_grain 55 = .ok (.aload_n 0, 1) := dk_42 (dk_at dksX8_grain_2 15 rfl rfl)
theorem dX8_grain_56 : decode cX8_grain 56 = .ok (.getfield 9, 3) := dk_180 0 9 (dk_at dksX8_grain_2 16 rfl rfl)
theorem dX8_grain_59 : decode cX8_grain 59 = .ok (.sipush 431, 3) := dk_17 1 175 (dk_at dksX8_grain_2 19 rfl rfl)
theorem dX8_grain_62 : decode cX8_grain 62 = .ok (.iaload, 1) := dk_46 (dk_at dksX8_grain_2 22 rfl rfl)
theorem dX8_grain_63 : decode cX8_grain 63 = .ok (.ireturn, 1) := dk_172 (dk_at dksX8_grain_2 23 rfl rfl)
theorem dX8_grain_64 : decode cX8_grain 64 = .ok (.aload_n 0, 1) := dk_42 (dk_at dksX8_grain_3 0 rfl rfl)
theorem dX8_grain_65 : decode cX8_grain 65 = .ok (.getfield 9, 3) := dk_180 0 9 (dk_at dksX8_grain_3 1 rfl rfl)
theorem dX8_grain_68 : decode cX8_grain 68 = .ok (.sipush 432, 3) := dk_17 1 176 (dk_at dksX8_grain_3 4 rfl rfl)
theorem dX8_grain_71 : decode cX8_grain 71 = .ok (.iaload, 1) := dk_46 (dk_at dksX8_grain_3 7 rfl rfl)
theorem dX8_grain_72 : decode cX8_grain 72 = .ok (.ireturn, 1) := dk_172 (dk_at dksX8_grain_3 8 rfl rfl)
theorem dX8_grain_73 : decode cX8_grain 73 = .ok (.bipush (-2), 2) := dk_16 254 (dk_at dksX8_grain_3 9 rfl rfl)
theorem dX8_grain_75 : decode cX8_grain 75 = .ok (.ireturn, 1) := dk_172 (dk_at dksX8_grain_3 11 rfl rfl)
def dkwX8_sum_4 : List UInt8 := [28, 172]
abbrev dktX8_sum_4 : List UInt8 := dkwX8_sum_4 ++ []
def dkwX8_sum_3 : List UInt8 := [6, 162, 0, 23, 27, 6, 160, 0, 18, 28, 42, 29, 3, 182, 0, 178, 96, 61, 132, 3, 1, 167, 255, 234]
abbrev dktX8_sum_3 : List UInt8 := dkwX8_sum_3 ++ dktX8_sum_4
def dkwX8_sum_2 : List UInt8 := [182, 0, 165, 42, 29, 4, 182, 0, 165, 184, 0, 134, 104, 96, 61, 132, 3, 1, 167, 255, 224, 3, 62, 29]
abbrev dktX8_sum_2 : List UInt8 := dkwX8_sum_2 ++ dktX8_sum_3
def dkwX8_sum_1 : List UInt8 := [132, 3, 1, 167, 255, 235, 3, 62, 29, 5, 162, 0, 33, 27, 5, 160, 0, 28, 28, 42, 29, 3]
abbrev dktX8_sum_1 : List UInt8 := dkwX8_sum_1 ++ dktX8_sum_2
def dkwX8_sum_0 : List UInt8 := [3, 61, 3, 62, 29, 7, 162, 0, 22, 27, 4, 160, 0, 17, 28, 42, 29, 182, 0, 147, 96, 61]
abbrev dktX8_sum_0 : List UInt8 := dkwX8_sum_0 ++ dktX8_sum_1
theorem dksX8_sum_0 : cX8_sum.data.toList.drop 0 = dktX8_sum_0 := by decide +kernel
theorem dksX8_sum_1 : cX8_sum.data.toList.drop 22 = dktX8_sum_1 := dk_seg dksX8_sum_0 22 rfl rfl
theorem dksX8_sum_2 : cX8_sum.data.toList.drop 44 = dktX8_sum_2 := dk_seg dksX8_sum_1 22 rfl rfl
theorem dksX8_sum_3 : cX8_sum.data.toList.drop 68 = dktX8_sum_3 := dk_seg dksX8_sum_2 24 rfl rfl
theorem dksX8_sum_4 : cX8_sum.data.toList.drop 92 = dktX8_sum_4 := dk_seg dksX8_sum_3 24 rfl rfl
theorem dX8_sum_0 : decode cX8_sum 0 = .ok (.iconst 0, 1) := dk_3 (dk_at dksX8_sum_0 0 rfl rfl)
theorem dX8_sum_1 : decode cX8_sum 1 = .ok (.istore_n 2, 1) := dk_61 (dk_at dksX8_sum_0 1 rfl rfl)
theorem dX8_sum_2 : decode cX8_sum 2 = .ok (.iconst 0, 1) := dk_3 (dk_at dksX8_sum_0 2 rfl rfl)
theorem dX8_sum_3 : decode cX8_sum 3 = .ok (.istore_n 3, 1) := dk_62 (dk_at dksX8_sum_0 3 rfl rfl)
theorem dX8_sum_4 : decode cX8_sum 4 = .ok (.iload_n 3, 1) := dk_29 (dk_at dksX8_sum_0 4 rfl rfl)
theorem dX8_sum_5 : decode cX8_sum 5 = .ok (.iconst 4, 1) := dk_7 (dk_at dksX8_sum_0 5 rfl rfl)
theorem dX8_sum_6 : decode cX8_sum 6 = .ok (.if_icmp .ge 22, 3) := dk_162 0 22 (dk_at dksX8_sum_0 6 rfl rfl)
theorem dX8_sum_9 : decode cX8_sum 9 = .ok (.iload_n 1, 1) := dk_27 (dk_at dksX8_sum_0 9 rfl rfl)
theorem dX8_sum_10 : decode cX8_sum 10 = .ok (.iconst 1, 1) := dk_4 (dk_at dksX8_sum_0 10 rfl rfl)
theorem dX8_sum_11 : decode cX8_sum 11 = .ok (.if_icmp .ne 17, 3) := dk_160 0 17 (dk_at dksX8_sum_0 11 rfl rfl)
theorem dX8_sum_14 : decode cX8_sum 14 = .ok (.iload_n 2, 1) := dk_28 (dk_at dksX8_sum_0 14 rfl rfl)
theorem dX8_sum_15 : decode cX8_sum 15 = .ok (.aload_n 0, 1) := dk_42 (dk_at dksX8_sum_0 15 rfl rfl)
theorem dX8_sum_16 : decode cX8_sum 16 = .ok (.iload_n 3, 1) := dk_29 (dk_at dksX8_sum_0 16 rfl rfl)
theorem dX8_sum_17 : decode cX8_sum 17 = .ok (.invokevirtual 147, 3) := dk_182 0 147 (dk_at dksX8_sum_0 17 rfl rfl)
theorem dX8_sum_20 : decode cX8_sum 20 = .ok (.iadd, 1) := dk_96 (dk_at dksX8_sum_0 20 rfl rfl)
theorem dX8_sum_21 : decode cX8_sum 21 = .ok (.istore_n 2, 1) := dk_61 (dk_at dksX8_sum_0 21 rfl rfl)
theorem dX8_sum_22 : decode cX8_sum 22 = .ok (.iinc 3 1, 3) := dk_132 3 1 (dk_at dksX8_sum_1 0 rfl rfl)
theorem dX8_sum_25 : decode cX8_sum 25 = .ok (.goto (-21), 3) := dk_167 255 235 (dk_at dksX8_sum_1 3 rfl rfl)
theorem dX8_sum_28 : decode cX8_sum 28 = .ok (.iconst 0, 1) := dk_3 (dk_at dksX8_sum_1 6 rfl rfl)
theorem dX8_sum_29 : decode cX8_sum 29 = .ok (.istore_n 3, 1) := dk_62 (dk_at dksX8_sum_1 7 rfl rfl)
theorem dX8_sum_30 : decode cX8_sum 30 = .ok (.iload_n 3, 1) := dk_29 (dk_at dksX8_sum_1 8 rfl rfl)
theorem dX8_sum_31 : decode cX8_sum 31 = .ok (.iconst 2, 1) := dk_5 (dk_at dksX8_sum_1 9 rfl rfl)
theorem dX8_sum_32 : decode cX8_sum 32 = .ok (.if_icmp .ge 33, 3) := dk_162 0 33 (dk_at dksX8_sum_1 10 rfl rfl)
theorem dX8_sum_35 : decode cX8_sum 35 = .ok (.iload_n 1, 1) := dk_27 (dk_at dksX8_sum_1 13 rfl rfl)
theorem dX8_sum_36 : decode cX8_sum 36 = .ok (.iconst 2, 1) := dk_5 (dk_at dksX8_sum_1 14 rfl rfl)
theorem dX8_sum_37 : decode cX8_sum 37 = .ok (.if_icmp .ne 28, 3) := dk_160 0 28 (dk_at dksX8_sum_1 15 rfl rfl)
theorem dX8_sum_40 : decode cX8_sum 40 = .ok (.iload_n 2, 1) := dk_28 (dk_at dksX8_sum_1 18 rfl rfl)
theorem dX8_sum_41 : decode cX8_sum 41 = .ok (.aload_n 0, 1) := dk_42 (dk_at dksX8_sum_1 19 rfl rfl)
theorem dX8_sum_42 : decode cX8_sum 42 = .ok (.iload_n 3, 1) := dk_29 (dk_at dksX8_sum_1 20 rfl rfl)
theorem dX8_sum_43 : decode cX8_sum 43 = .ok (.iconst 0, 1) := dk_3 (dk_at dksX8_sum_1 21 rfl rfl)
theorem dX8_sum_44 : decode cX8_sum 44 = .ok (.invokevirtual 165, 3) := dk_182 0 165 (dk_at dksX8_sum_2 0 rfl rfl)
theorem dX8_sum_47 : decode cX8_sum 47 = .ok (.aload_n 0, 1) := dk_42 (dk_at dksX8_sum_2 3 rfl rfl)
theorem dX8_sum_48 : decode cX8_sum 48 = .ok (.iload_n 3, 1) := dk_29 (dk_at dksX8_sum_2 4 rfl rfl)
theorem dX8_sum_49 : decode cX8_sum 49 = .ok (.iconst 1, 1) := dk_4 (dk_at dksX8_sum_2 5 rfl rfl)
theorem dX8_sum_50 : decode cX8_sum 50 = .ok (.invokevirtual 165, 3) := dk_182 0 165 (dk_at dksX8_sum_2 6 rfl rfl)
theorem dX8_sum_53 : decode cX8_sum 53 = .ok (.invokestatic 134, 3) := dk_184 0 134 (dk_at dksX8_sum_2 9 rfl rfl)
theorem dX8_sum_56 : decode cX8_sum 56 = .ok (.imul, 1) := dk_104 (dk_at dksX8_sum_2 12 rfl rfl)
theorem dX8_sum_57 : decode cX8_sum 57 = .ok (.iadd, 1) := dk_96 (dk_at dksX8_sum_2 13 rfl rfl)
theorem dX8_sum_58 : decode cX8_sum 58 = .ok (.istore_n 2, 1) := dk_61 (dk_at dksX8_sum_2 14 rfl rfl)
theorem dX8_sum_59 : decode cX8_sum 59 = .ok (.iinc 3 1, 3) := dk_132 3 1 (dk_at dksX8_sum_2 15 rfl rfl)
theorem dX8_sum_62 : decode cX8_sum 62 = .ok (.goto (-32), 3) := dk_167 255 224 (dk_at dksX8_sum_2 18 rfl rfl)
theorem dX8_sum_65 : decode cX8_sum 65 = .ok (.iconst 0, 1) := dk_3 (dk_at dksX8_sum_2 21 rfl rfl)
theorem dX8_sum_66 : decode cX8_sum 66 = .ok (.istore_n 3, 1) := dk_62 (dk_at dksX8_sum_2 22 rfl rfl)
theorem dX8_sum_67 : decode cX8_sum 67 = .ok (.iload_n 3, 1) := dk_29 (dk_at dksX8_sum_2 23 rfl rfl)
theorem dX8_sum_68 : decode cX8_sum 68 = .ok (.iconst 3, 1) := dk_6 (dk_at dksX8_sum_3 0 rfl rfl)
theorem dX8_sum_69 : decode cX8_sum 69 = .ok (.if_icmp .ge 23, 3) := dk_162 0 23 (dk_at dksX8_sum_3 1 rfl rfl)
theorem dX8_sum_72 : decode cX8_sum 72 = .ok (.iload_n 1, 1) := dk_27 (dk_at dksX8_sum_3 4 rfl rfl)
theorem dX8_sum_73 : decode cX8_sum 73 = .ok (.iconst 3, 1) := dk_6 (dk_at dksX8_sum_3 5 rfl rfl)
theorem dX8_sum_74 : decode cX8_sum 74 = .ok (.if_icmp .ne 18, 3) := dk_160 0 18 (dk_at dksX8_sum_3 6 rfl rfl)
theorem dX8_sum_77 : decode cX8_sum 77 = .ok (.iload_n 2, 1) := dk_28 (dk_at dksX8_sum_3 9 rfl rfl)
theorem dX8_sum_78 : decode cX8_sum 78 = .ok (.aload_n 0, 1) := dk_42 (dk_at dksX8_sum_3 10 rfl rfl)
theorem dX8_sum_79 : decode cX8_sum 79 = .ok (.iload_n 3, 1) := dk_29 (dk_at dksX8_sum_3 11 rfl rfl)
theorem dX8_sum_80 : decode cX8_sum 80 = .ok (.iconst 0, 1) := dk_3 (dk_at dksX8_sum_3 12 rfl rfl)
theorem dX8_sum_81 : decode cX8_sum 81 = .ok (.invokevirtual 178, 3) := dk_182 0 178 (dk_at dksX8_sum_3 13 rfl rfl)
theorem dX8_sum_84 : decode cX8_sum 84 = .ok (.iadd, 1) := dk_96 (dk_at dksX8_sum_3 16 rfl rfl)
theorem dX8_sum_85 : decode cX8_sum 85 = .ok (.istore_n 2, 1) := dk_61 (dk_at dksX8_sum_3 17 rfl rfl)
theorem dX8_sum_86 : decode cX8_sum 86 = .ok (.iinc 3 1, 3) := dk_132 3 1 (dk_at dksX8_sum_3 18 rfl rfl)
theorem dX8_sum_89 : decode cX8_sum 89 = .ok (.goto (-22), 3) := dk_167 255 234 (dk_at dksX8_sum_3 21 rfl rfl)
theorem dX8_sum_92 : decode cX8_sum 92 = .ok (.iload_n 2, 1) := dk_28 (dk_at dksX8_sum_4 0 rfl rfl)
theorem dX8_sum_93 : decode cX8_sum 93 = .ok (.ireturn, 1) := dk_172 (dk_at dksX8_sum_4 1 rfl rfl)
def dkwX8_grainAgain_1 : List UInt8 := [46, 96, 42, 180, 0, 9, 17, 1, 176, 46, 96, 172]
abbrev dktX8_grainAgain_1 : List UInt8 := dkwX8_grainAgain_1 ++ []
def dkwX8_grainAgain_0 : List UInt8 := [42, 4, 182, 0, 242, 42, 5, 182, 0, 242, 96, 42, 6, 182, 0, 242, 96, 42, 180, 0, 9, 17, 1, 175]
abbrev dktX8_grainAgain_0 : List UInt8 := dkwX8_grainAgain_0 ++ dktX8_grainAgain_1
theorem dksX8_grainAgain_0 : cX8_grainAgain.data.toList.drop 0 = dktX8_grainAgain_0 := by decide +kernel
theorem dksX8_grainAgain_1 : cX8_grainAgain.data.toList.drop 24 = dktX8_grainAgain_1 := dk_seg dksX8_grainAgain_0 24 rfl rfl
theorem dX8_grainAgain_0 : decode cX8_grainAgain 0 = .ok (.aload_n 0, 1) := dk_42 (dk_at dksX8_grainAgain_0 0 rfl rfl)
theorem dX8_grainAgain_1 : decode cX8_grainAgain 1 = .ok (.iconst 1, 1) := dk_4 (dk_at dksX8_grainAgain_0 1 rfl rfl)
theorem dX8_grainAgain_2 : decode cX8_grainAgain 2 = .ok (.invokevirtual 242, 3) := dk_182 0 242 (dk_at dksX8_grainAgain_0 2 rfl rfl)
theorem dX8_grainAgain_5 : decode cX8_grainAgain 5 = .ok (.aload_n 0, 1) := dk_42 (dk_at dksX8_grainAgain_0 5 rfl rfl)
theorem dX8_grainAgain_6 : decode cX8_grainAgain 6 = .ok (.iconst 2, 1) := dk_5 (dk_at dksX8_grainAgain_0 6 rfl rfl)
theorem dX8_grainAgain_7 : decode cX8_grainAgain 7 = .ok (.invokevirtual 242, 3) := dk_182 0 242 (dk_at dksX8_grainAgain_0 7 rfl rfl)
theorem dX8_grainAgain_10 : decode cX8_grainAgain 10 = .ok (.iadd, 1) := dk_96 (dk_at dksX8_grainAgain_0 10 rfl rfl)
theorem dX8_grainAgain_11 : decode cX8_grainAgain 11 = .ok (.aload_n 0, 1) := dk_42 (dk_at dksX8_grainAgain_0 11 rfl rfl)
theorem dX8_grainAgain_12 : decode cX8_grainAgain 12 = .ok (.iconst 3, 1) := dk_6 (dk_at dksX8_grainAgain_0 12 rfl rfl)
theorem dX8_grainAgain_13 : decode cX8_grainAgain 13 = .ok (.invokevirtual 242, 3) := dk_182 0 242 (dk_at dksX8_grainAgain_0 13 rfl rfl)
theorem dX8_grainAgain_16 : decode cX8_grainAgain 16 = .ok (.iadd, 1) := dk_96 (dk_at dksX8_grainAgain_0 16 rfl rfl)
theorem dX8_grainAgain_17 : decode cX8_grainAgain 17 = .ok (.aload_n 0, 1) := dk_42 (dk_at dksX8_grainAgain_0 17 rfl rfl)
theorem dX8_grainAgain_18 : decode cX8_grainAgain 18 = .ok (.getfield 9, 3) := dk_180 0 9 (dk_at dksX8_grainAgain_0 18 rfl rfl)
theorem dX8_grainAgain_21 : decode cX8_grainAgain 21 = .ok (.sipush 431, 3) := dk_17 1 175 (dk_at dksX8_grainAgain_0 21 rfl rfl)
theorem dX8_grainAgain_24 : decode cX8_grainAgain 24 = .ok (.iaload, 1) := dk_46 (dk_at dksX8_grainAgain_1 0 rfl rfl)
theorem dX8_grainAgain_25 : decode cX8_grainAgain 25 = .ok (.iadd, 1) := dk_96 (dk_at dksX8_grainAgain_1 1 rfl rfl)
theorem dX8_grainAgain_26 : decode cX8_grainAgain 26 = .ok (.aload_n 0, 1) := dk_42 (dk_at dksX8_grainAgain_1 2 rfl rfl)
theorem dX8_grainAgain_27 : decode cX8_grainAgain 27 = .ok (.getfield 9, 3) := dk_180 0 9 (dk_at dksX8_grainAgain_1 3 rfl rfl)
theorem dX8_grainAgain_30 : decode cX8_grainAgain 30 = .ok (.sipush 432, 3) := dk_17 1 176 (dk_at dksX8_grainAgain_1 6 rfl rfl)
theorem dX8_grainAgain_33 : decode cX8_grainAgain 33 = .ok (.iaload, 1) := dk_46 (dk_at dksX8_grainAgain_1 9 rfl rfl)
theorem dX8_grainAgain_34 : decode cX8_grainAgain 34 = .ok (.iadd, 1) := dk_96 (dk_at dksX8_grainAgain_1 10 rfl rfl)
theorem dX8_grainAgain_35 : decode cX8_grainAgain 35 = .ok (.ireturn, 1) := dk_172 (dk_at dksX8_grainAgain_1 11 rfl rfl)
def dkwX8_share_1 : List UInt8 := [134, 28, 134, 110, 167, 0, 4, 11, 174]
abbrev dktX8_share_1 : List UInt8 := dkwX8_share_1 ++ []
def dkwX8_share_0 : List UInt8 := [42, 6, 182, 0, 245, 61, 42, 27, 182, 0, 107, 153, 0, 20, 28, 158, 0, 16, 42, 27, 6, 182, 0, 89]
abbrev dktX8_share_0 : List UInt8 := dkwX8_share_0 ++ dktX8_share_1
theorem dksX8_share_0 : cX8_share.data.toList.drop 0 = dktX8_share_0 := by decide +kernel
theorem dksX8_share_1 : cX8_share.data.toList.drop 24 = dktX8_share_1 := dk_seg dksX8_share_0 24 rfl rfl
theorem dX8_share_0 : decode cX8_share 0 = .ok (.aload_n 0, 1) := dk_42 (dk_at dksX8_share_0 0 rfl rfl)
theorem dX8_share_1 : decode cX8_share 1 = .ok (.iconst 3, 1) := dk_6 (dk_at dksX8_share_0 1 rfl rfl)
theorem dX8_share_2 : decode cX8_share 2 = .ok (.invokevirtual 245, 3) := dk_182 0 245 (dk_at dksX8_share_0 2 rfl rfl)
theorem dX8_share_5 : decode cX8_share 5 = .ok (.istore_n 2, 1) := dk_61 (dk_at dksX8_share_0 5 rfl rfl)
theorem dX8_share_6 : decode cX8_share 6 = .ok (.aload_n 0, 1) := dk_42 (dk_at dksX8_share_0 6 rfl rfl)
theorem dX8_share_7 : decode cX8_share 7 = .ok (.iload_n 1, 1) := dk_27 (dk_at dksX8_share_0 7 rfl rfl)
theorem dX8_share_8 : decode cX8_share 8 = .ok (.invokevirtual 107, 3) := dk_182 0 107 (dk_at dksX8_share_0 8 rfl rfl)
theorem dX8_share_11 : decode cX8_share 11 = .ok (.ifCond .eq 20, 3) := dk_153 0 20 (dk_at dksX8_share_0 11 rfl rfl)
theorem dX8_share_14 : decode cX8_share 14 = .ok (.iload_n 2, 1) := dk_28 (dk_at dksX8_share_0 14 rfl rfl)
theorem dX8_share_15 : decode cX8_share 15 = .ok (.ifCond .le 16, 3) := dk_158 0 16 (dk_at dksX8_share_0 15 rfl rfl)
theorem dX8_share_18 : decode cX8_share 18 = .ok (.aload_n 0, 1) := dk_42 (dk_at dksX8_share_0 18 rfl rfl)
theorem dX8_share_19 : decode cX8_share 19 = .ok (.iload_n 1, 1) := dk_27 (dk_at dksX8_share_0 19 rfl rfl)
theorem dX8_share_20 : decode cX8_share 20 = .ok (.iconst 3, 1) := dk_6 (dk_at dksX8_share_0 20 rfl rfl)
theorem dX8_share_21 : decode cX8_share 21 = .ok (.invokevirtual 89, 3) := dk_182 0 89 (dk_at dksX8_share_0 21 rfl rfl)
theorem dX8_share_24 : decode cX8_share 24 = .ok (.i2f, 1) := dk_134 (dk_at dksX8_share_1 0 rfl rfl)
theorem dX8_share_25 : decode cX8_share 25 = .ok (.iload_n 2, 1) := dk_28 (dk_at dksX8_share_1 1 rfl rfl)
theorem dX8_share_26 : decode cX8_share 26 = .ok (.i2f, 1) := dk_134 (dk_at dksX8_share_1 2 rfl rfl)
theorem dX8_share_27 : decode cX8_share 27 = .ok (.fdiv, 1) := dk_110 (dk_at dksX8_share_1 3 rfl rfl)
theorem dX8_share_28 : decode cX8_share 28 = .ok (.goto 4, 3) := dk_167 0 4 (dk_at dksX8_share_1 4 rfl rfl)
theorem dX8_share_31 : decode cX8_share 31 = .ok (.fconst 0, 1) := dk_11 (dk_at dksX8_share_1 7 rfl rfl)
theorem dX8_share_32 : decode cX8_share 32 = .ok (.freturn, 1) := dk_174 (dk_at dksX8_share_1 8 rfl rfl)
def dkwX8_total_1 : List UInt8 := [182, 0, 125, 167, 0, 9, 42, 29, 27, 182, 0, 89, 96, 61, 132, 3, 1, 167, 255, 221, 28, 172]
abbrev dktX8_total_1 : List UInt8 := dkwX8_total_1 ++ []
def dkwX8_total_0 : List UInt8 := [3, 61, 3, 62, 29, 42, 180, 0, 9, 3, 46, 162, 0, 31, 28, 27, 7, 160, 0, 11, 42, 29]
abbrev dktX8_total_0 : List UInt8 := dkwX8_total_0 ++ dktX8_total_1
theorem dksX8_total_0 : cX8_total.data.toList.drop 0 = dktX8_total_0 := by decide +kernel
theorem dksX8_total_1 : cX8_total.data.toList.drop 22 = dktX8_total_1 := dk_seg dksX8_total_0 22 rfl rfl
theorem dX8_total_0 : decode cX8_total 0 = .ok (.iconst 0, 1) := dk_3 (dk_at dksX8_total_0 0 rfl rfl)
theorem dX8_total_1 : decode cX8_total 1 = .ok (.istore_n 2, 1) := dk_61 (dk_at dksX8_total_0 1 rfl rfl)
theorem dX8_total_2 : decode cX8_total 2 = .ok (.iconst 0, 1) := dk_3 (dk_at dksX8_total_0 2 rfl rfl)
theorem dX8_total_3 : decode cX8_total 3 = .ok (.istore_n 3, 1) := dk_62 (dk_at dksX8_total_0 3 rfl rfl)
theorem dX8_total_4 : decode cX8_total 4 = .ok (.iload_n 3, 1) := dk_29 (dk_at dksX8_total_0 4 rfl rfl)
theorem dX8_total_5 : decode cX8_total 5 = .ok (.aload_n 0, 1) := dk_42 (dk_at dksX8_total_0 5 rfl rfl)
theorem dX8_total_6 : decode cX8_total 6 = .ok (.getfield 9, 3) := dk_180 0 9 (dk_at dksX8_total_0 6 rfl rfl)
theorem dX8_total_9 : decode cX8_total 9 = .ok (.iconst 0, 1) := dk_3 (dk_at dksX8_total_0 9 rfl rfl)
theorem dX8_total_10 : decode cX8_total 10 = .ok (.iaload, 1) := dk_46 (dk_at dksX8_total_0 10 rfl rfl)
theorem dX8_total_11 : decode cX8_total 11 = .ok (.if_icmp .ge 31, 3) := dk_162 0 31 (dk_at dksX8_total_0 11 rfl rfl)
theorem dX8_total_14 : decode cX8_total 14 = .ok (.iload_n 2, 1) := dk_28 (dk_at dksX8_total_0 14 rfl rfl)
theorem dX8_total_15 : decode cX8_total 15 = .ok (.iload_n 1, 1) := dk_27 (dk_at dksX8_total_0 15 rfl rfl)
theorem dX8_total_16 : decode cX8_total 16 = .ok (.iconst 4, 1) := dk_7 (dk_at dksX8_total_0 16 rfl rfl)
theorem dX8_total_17 : decode cX8_total 17 = .ok (.if_icmp .ne 11, 3) := dk_160 0 11 (dk_at dksX8_total_0 17 rfl rfl)
theorem dX8_total_20 : decode cX8_total 20 = .ok (.aload_n 0, 1) := dk_42 (dk_at dksX8_total_0 20 rfl rfl)
theorem dX8_total_21 : decode cX8_total 21 = .ok (.iload_n 3, 1) := dk_29 (dk_at dksX8_total_0 21 rfl rfl)
theorem dX8_total_22 : decode cX8_total 22 = .ok (.invokevirtual 125, 3) := dk_182 0 125 (dk_at dksX8_total_1 0 rfl rfl)
theorem dX8_total_25 : decode cX8_total 25 = .ok (.goto 9, 3) := dk_167 0 9 (dk_at dksX8_total_1 3 rfl rfl)
theorem dX8_total_28 : decode cX8_total 28 = .ok (.aload_n 0, 1) := dk_42 (dk_at dksX8_total_1 6 rfl rfl)
theorem dX8_total_29 : decode cX8_total 29 = .ok (.iload_n 3, 1) := dk_29 (dk_at dksX8_total_1 7 rfl rfl)
theorem dX8_total_30 : decode cX8_total 30 = .ok (.iload_n 1, 1) := dk_27 (dk_at dksX8_total_1 8 rfl rfl)
theorem dX8_total_31 : decode cX8_total 31 = .ok (.invokevirtual 89, 3) := dk_182 0 89 (dk_at dksX8_total_1 9 rfl rfl)
theorem dX8_total_34 : decode cX8_total 34 = .ok (.iadd, 1) := dk_96 (dk_at dksX8_total_1 12 rfl rfl)
theorem dX8_total_35 : decode cX8_total 35 = .ok (.istore_n 2, 1) := dk_61 (dk_at dksX8_total_1 13 rfl rfl)
theorem dX8_total_36 : decode cX8_total 36 = .ok (.iinc 3 1, 3) := dk_132 3 1 (dk_at dksX8_total_1 14 rfl rfl)
theorem dX8_total_39 : decode cX8_total 39 = .ok (.goto (-35), 3) := dk_167 255 221 (dk_at dksX8_total_1 17 rfl rfl)
theorem dX8_total_42 : decode cX8_total 42 = .ok (.iload_n 2, 1) := dk_28 (dk_at dksX8_total_1 20 rfl rfl)
theorem dX8_total_43 : decode cX8_total 43 = .ok (.ireturn, 1) := dk_172 (dk_at dksX8_total_1 21 rfl rfl)
def dkwX8_meanRats_0 : List UInt8 := [42, 4, 182, 0, 248, 135, 20, 0, 251, 111, 175]
abbrev dktX8_meanRats_0 : List UInt8 := dkwX8_meanRats_0 ++ []
theorem dksX8_meanRats_0 : cX8_meanRats.data.toList.drop 0 = dktX8_meanRats_0 := by decide +kernel
theorem dX8_meanRats_0 : decode cX8_meanRats 0 = .ok (.aload_n 0, 1) := dk_42 (dk_at dksX8_meanRats_0 0 rfl rfl)
theorem dX8_meanRats_1 : decode cX8_meanRats 1 = .ok (.iconst 1, 1) := dk_4 (dk_at dksX8_meanRats_0 1 rfl rfl)
theorem dX8_meanRats_2 : decode cX8_meanRats 2 = .ok (.invokevirtual 248, 3) := dk_182 0 248 (dk_at dksX8_meanRats_0 2 rfl rfl)
theorem dX8_meanRats_5 : decode cX8_meanRats 5 = .ok (.i2d, 1) := dk_135 (dk_at dksX8_meanRats_0 5 rfl rfl)
theorem dX8_meanRats_6 : decode cX8_meanRats 6 = .ok (.ldc2_w 251, 3) := dk_20 0 251 (dk_at dksX8_meanRats_0 6 rfl rfl)
theorem dX8_meanRats_9 : decode cX8_meanRats 9 = .ok (.ddiv, 1) := dk_111 (dk_at dksX8_meanRats_0 9 rfl rfl)
theorem dX8_meanRats_10 : decode cX8_meanRats 10 = .ok (.dreturn, 1) := dk_175 (dk_at dksX8_meanRats_0 10 rfl rfl)
def dkwX8_allAt_1 : List UInt8 := [46, 96, 61, 132, 3, 1, 167, 255, 230, 28, 172]
abbrev dktX8_allAt_1 : List UInt8 := dkwX8_allAt_1 ++ []
def dkwX8_allAt_0 : List UInt8 := [3, 61, 3, 62, 29, 16, 7, 162, 0, 26, 28, 42, 180, 0, 9, 17, 1, 150, 6, 29, 104, 96, 27, 96]
abbrev dktX8_allAt_0 : List UInt8 := dkwX8_allAt_0 ++ dktX8_allAt_1
theorem dksX8_allAt_0 : cX8_allAt.data.toList.drop 0 = dktX8_allAt_0 := by decide +kernel
theorem dksX8_allAt_1 : cX8_allAt.data.toList.drop 24 = dktX8_allAt_1 := dk_seg dksX8_allAt_0 24 rfl rfl
theorem dX8_allAt_0 : decode cX8_allAt 0 = .ok (.iconst 0, 1) := dk_3 (dk_at dksX8_allAt_0 0 rfl rfl)
theorem dX8_allAt_1 : decode cX8_allAt 1 = .ok (.istore_n 2, 1) := dk_61 (dk_at dksX8_allAt_0 1 rfl rfl)
theorem dX8_allAt_2 : decode cX8_allAt 2 = .ok (.iconst 0, 1) := dk_3 (dk_at dksX8_allAt_0 2 rfl rfl)
theorem dX8_allAt_3 : decode cX8_allAt 3 = .ok (.istore_n 3, 1) := dk_62 (dk_at dksX8_allAt_0 3 rfl rfl)
theorem dX8_allAt_4 : decode cX8_allAt 4 = .ok (.iload_n 3, 1) := dk_29 (dk_at dksX8_allAt_0 4 rfl rfl)
theorem dX8_allAt_5 : decode cX8_allAt 5 = .ok (.bipush 7, 2) := dk_16 7 (dk_at dksX8_allAt_0 5 rfl rfl)
theorem dX8_allAt_7 : decode cX8_allAt 7 = .ok (.if_icmp .ge 26, 3) := dk_162 0 26 (dk_at dksX8_allAt_0 7 rfl rfl)
theorem dX8_allAt_10 : decode cX8_allAt 10 = .ok (.iload_n 2, 1) := dk_28 (dk_at dksX8_allAt_0 10 rfl rfl)
theorem dX8_allAt_11 : decode cX8_allAt 11 = .ok (.aload_n 0, 1) := dk_42 (dk_at dksX8_allAt_0 11 rfl rfl)
theorem dX8_allAt_12 : decode cX8_allAt 12 = .ok (.getfield 9, 3) := dk_180 0 9 (dk_at dksX8_allAt_0 12 rfl rfl)
theorem dX8_allAt_15 : decode cX8_allAt 15 = .ok (.sipush 406, 3) := dk_17 1 150 (dk_at dksX8_allAt_0 15 rfl rfl)
theorem dX8_allAt_18 : decode cX8_allAt 18 = .ok (.iconst 3, 1) := dk_6 (dk_at dksX8_allAt_0 18 rfl rfl)
theorem dX8_allAt_19 : decode cX8_allAt 19 = .ok (.iload_n 3, 1) := dk_29 (dk_at dksX8_allAt_0 19 rfl rfl)
theorem dX8_allAt_20 : decode cX8_allAt 20 = .ok (.imul, 1) := dk_104 (dk_at dksX8_allAt_0 20 rfl rfl)
theorem dX8_allAt_21 : decode cX8_allAt 21 = .ok (.iadd, 1) := dk_96 (dk_at dksX8_allAt_0 21 rfl rfl)
theorem dX8_allAt_22 : decode cX8_allAt 22 = .ok (.iload_n 1, 1) := dk_27 (dk_at dksX8_allAt_0 22 rfl rfl)
theorem dX8_allAt_23 : decode cX8_allAt 23 = .ok (.iadd, 1) := dk_96 (dk_at dksX8_allAt_0 23 rfl rfl)
theorem dX8_allAt_24 : decode cX8_allAt 24 = .ok (.iaload, 1) := dk_46 (dk_at dksX8_allAt_1 0 rfl rfl)
theorem dX8_allAt_25 : decode cX8_allAt 25 = .ok (.iadd, 1) := dk_96 (dk_at dksX8_allAt_1 1 rfl rfl)
theorem dX8_allAt_26 : decode cX8_allAt 26 = .ok (.istore_n 2, 1) := dk_61 (dk_at dksX8_allAt_1 2 rfl rfl)
theorem dX8_allAt_27 : decode cX8_allAt 27 = .ok (.iinc 3 1, 3) := dk_132 3 1 (dk_at dksX8_allAt_1 3 rfl rfl)
theorem dX8_allAt_30 : decode cX8_allAt 30 = .ok (.goto (-26), 3) := dk_167 255 230 (dk_at dksX8_allAt_1 6 rfl rfl)
theorem dX8_allAt_33 : decode cX8_allAt 33 = .ok (.iload_n 2, 1) := dk_28 (dk_at dksX8_allAt_1 9 rfl rfl)
theorem dX8_allAt_34 : decode cX8_allAt 34 = .ok (.ireturn, 1) := dk_172 (dk_at dksX8_allAt_1 10 rfl rfl)
def dkwX8_script_6 : List UInt8 := [172]
abbrev dktX8_script_6 : List UInt8 := dkwX8_script_6 ++ []
def dkwX8_script_5 : List UInt8 := [180, 0, 9, 3, 184, 0, 73, 16, 253, 172, 132, 1, 1, 167, 255, 175, 42, 42, 180, 1, 12, 182, 0, 81]
abbrev dktX8_script_5 : List UInt8 := dkwX8_script_5 ++ dktX8_script_6
def dkwX8_script_4 : List UInt8 := [156, 0, 32, 42, 3, 16, 11, 27, 182, 0, 69, 42, 4, 182, 0, 77, 42, 180, 0, 13, 3, 42]
abbrev dktX8_script_4 : List UInt8 := dkwX8_script_4 ++ dktX8_script_5
def dkwX8_script_3 : List UInt8 := [180, 0, 47, 6, 27, 104, 4, 96, 46, 42, 180, 0, 47, 6, 27, 104, 5, 96, 46, 182, 1, 33]
abbrev dktX8_script_3 : List UInt8 := dkwX8_script_3 ++ dktX8_script_4
def dkwX8_script_2 : List UInt8 := [180, 1, 12, 162, 0, 79, 42, 42, 180, 0, 44, 27, 46, 42, 180, 0, 47, 6, 27, 104, 46, 42]
abbrev dktX8_script_2 : List UInt8 := dkwX8_script_2 ++ dktX8_script_3
def dkwX8_script_1 : List UInt8 := [159, 0, 14, 42, 42, 180, 1, 3, 181, 0, 34, 16, 254, 172, 42, 182, 0, 97, 3, 60, 27, 42]
abbrev dktX8_script_1 : List UInt8 := dkwX8_script_1 ++ dktX8_script_2
def dkwX8_script_0 : List UInt8 := [42, 42, 180, 0, 60, 181, 1, 0, 42, 3, 181, 0, 60, 42, 182, 1, 30, 42, 180, 1, 3, 2]
abbrev dktX8_script_0 : List UInt8 := dkwX8_script_0 ++ dktX8_script_1
theorem dksX8_script_0 : cX8_script.data.toList.drop 0 = dktX8_script_0 := by decide +kernel
theorem dksX8_script_1 : cX8_script.data.toList.drop 22 = dktX8_script_1 := dk_seg dksX8_script_0 22 rfl rfl
theorem dksX8_script_2 : cX8_script.data.toList.drop 44 = dktX8_script_2 := dk_seg dksX8_script_1 22 rfl rfl
theorem dksX8_script_3 : cX8_script.data.toList.drop 66 = dktX8_script_3 := dk_seg dksX8_script_2 22 rfl rfl
theorem dksX8_script_4 : cX8_script.data.toList.drop 88 = dktX8_script_4 := dk_seg dksX8_script_3 22 rfl rfl
theorem dksX8_script_5 : cX8_script.data.toList.drop 110 = dktX8_script_5 := dk_seg dksX8_script_4 22 rfl rfl
theorem dksX8_script_6 : cX8_script.data.toList.drop 134 = dktX8_script_6 := dk_seg dksX8_script_5 24 rfl rfl
theorem dX8_script_0 : decode cX8_script 0 = .ok (.aload_n 0, 1) := dk_42 (dk_at dksX8_script_0 0 rfl rfl)
theorem dX8_script_1 : decode cX8_script 1 = .ok (.aload_n 0, 1) := dk_42 (dk_at dksX8_script_0 1 rfl rfl)
theorem dX8_script_2 : decode cX8_script 2 = .ok (.getfield 60, 3) := dk_180 0 60 (dk_at dksX8_script_0 2 rfl rfl)
theorem dX8_script_5 : decode cX8_script 5 = .ok (.putfield 256, 3) := dk_181 1 0 (dk_at dksX8_script_0 5 rfl rfl)
theorem dX8_script_8 : decode cX8_script 8 = .ok (.aload_n 0, 1) := dk_42 (dk_at dksX8_script_0 8 rfl rfl)
theorem dX8_script_9 : decode cX8_script 9 = .ok (.iconst 0, 1) := dk_3 (dk_at dksX8_script_0 9 rfl rfl)
theorem dX8_script_10 : decode cX8_script 10 = .ok (.putfield 60, 3) := dk_181 0 60 (dk_at dksX8_script_0 10 rfl rfl)
theorem dX8_script_13 : decode cX8_script 13 = .ok (.aload_n 0, 1) := dk_42 (dk_at dksX8_script_0 13 rfl rfl)
theorem dX8_script_14 : decode cX8_script 14 = .ok (.invokevirtual 286, 3) := dk_182 1 30 (dk_at dksX8_script_0 14 rfl rfl)
theorem dX8_script_17 : decode cX8_script 17 = .ok (.aload_n 0, 1) := dk_42 (dk_at dksX8_script_0 17 rfl rfl)
theorem dX8_script_18 : decode cX8_script 18 = .ok (.getfield 259, 3) := dk_180 1 3 (dk_at dksX8_script_0 18 rfl rfl)
theorem dX8_script_21 : decode cX8_script 21 = .ok (.iconst (-1), 1) := dk_2 (dk_at dksX8_script_0 21 rfl rfl)
theorem dX8_script_22 : decode cX8_script 22 = .ok (.if_icmp .eq 14, 3) := dk_159 0 14 (dk_at dksX8_script_1 0 rfl rfl)
theorem dX8_script_25 : decode cX8_script 25 = .ok (.aload_n 0, 1) := dk_42 (dk_at dksX8_script_1 3 rfl rfl)
theorem dX8_script_26 : decode cX8_script 26 = .ok (.aload_n 0, 1) := dk_42 (dk_at dksX8_script_1 4 rfl rfl)
theorem dX8_script_27 : decode cX8_script 27 = .ok (.getfield 259, 3) := dk_180 1 3 (dk_at dksX8_script_1 5 rfl rfl)
theorem dX8_script_30 : decode cX8_script 30 = .ok (.putfield 34, 3) := dk_181 0 34 (dk_at dksX8_script_1 8 rfl rfl)
theorem dX8_script_33 : decode cX8_script 33 = .ok (.bipush (-2), 2) := dk_16 254 (dk_at dksX8_script_1 11 rfl rfl)
theorem dX8_script_35 : decode cX8_script 35 = .ok (.ireturn, 1) := dk_172 (dk_at dksX8_script_1 13 rfl rfl)
theorem dX8_script_36 : decode cX8_script 36 = .ok (.aload_n 0, 1) := dk_42 (dk_at dksX8_script_1 14 rfl rfl)
theorem dX8_script_37 : decode cX8_script 37 = .ok (.invokevirtual 97, 3) := dk_182 0 97 (dk_at dksX8_script_1 15 rfl rfl)
theorem dX8_script_40 : decode cX8_script 40 = .ok (.iconst 0, 1) := dk_3 (dk_at dksX8_script_1 18 rfl rfl)
theorem dX8_script_41 : decode cX8_script 41 = .ok (.istore_n 1, 1) := dk_60 (dk_at dksX8_script_1 19 rfl rfl)
theorem dX8_script_42 : decode cX8_script 42 = .ok (.iload_n 1, 1) := dk_27 (dk_at dksX8_script_1 20 rfl rfl)
theorem dX8_script_43 : decode cX8_script 43 = .ok (.aload_n 0, 1) := dk_42 (dk_at dksX8_script_1 21 rfl rfl)
theorem dX8_script_44 : decode cX8_script 44 = .ok (.getfield 268, 3) := dk_180 1 12 (dk_at dksX8_script_2 0 rfl rfl)
theorem dX8_script_47 : decode cX8_script 47 = .ok (.if_icmp .ge 79, 3) := dk_162 0 79 (dk_at dksX8_script_2 3 rfl rfl)
theorem dX8_script_50 : decode cX8_script 50 = .ok (.aload_n 0, 1) := dk_42 (dk_at dksX8_script_2 6 rfl rfl)
theorem dX8_script_51 : decode cX8_script 51 = .ok (.aload_n 0, 1) := dk_42 (dk_at dksX8_script_2 7 rfl rfl)
theorem dX8_script_52 : decode cX8_script 52 = .ok (.getfield 44, 3) := dk_180 0 44 (dk_at dksX8_script_2 8 rfl rfl)
theorem dX8_script_55 : decode cX8_script 55 = .ok (.iload_n 1, 1) := dk_27 (dk_at dksX8_script_2 11 rfl rfl)
theorem dX8_script_56 : decode cX8_script 56 = .ok (.iaload, 1) := dk_46 (dk_at dksX8_script_2 12 rfl rfl)
theorem dX8_script_57 : decode cX8_script 57 = .ok (.aload_n 0, 1) := dk_42 (dk_at dksX8_script_2 13 rfl rfl)
theorem dX8_script_58 : decode cX8_script 58 = .ok (.getfield 47, 3) := dk_180 0 47 (dk_at dksX8_script_2 14 rfl rfl)
theorem dX8_script_61 : decode cX8_script 61 = .ok (.iconst 3, 1) := dk_6 (dk_at dksX8_script_2 17 rfl rfl)
theorem dX8_script_62 : decode cX8_script 62 = .ok (.iload_n 1, 1) := dk_27 (dk_at dksX8_script_2 18 rfl rfl)
theorem dX8_script_63 : decode cX8_script 63 = .ok (.imul, 1) := dk_104 (dk_at dksX8_script_2 19 rfl rfl)
theorem dX8_script_64 : decode cX8_script 64 = .ok (.iaload, 1) := dk_46 (dk_at dksX8_script_2 20 rfl rfl)
theorem dX8_script_65 : decode cX8_script 65 = .ok (.aload_n 0, 1) := dk_42 (dk_at dksX8_script_2 21 rfl rfl)
theorem dX8_script_66 : decode cX8_script 66 = .ok (.getfield 47, 3) := dk_180 0 47 (dk_at dksX8_script_3 0 rfl rfl)
theorem dX8_script_69 : decode cX8_script 69 = .ok (.iconst 3, 1) := dk_6 (dk_at dksX8_script_3 3 rfl rfl)
theorem dX8_script_70 : decode cX8_script 70 = .ok (.iload_n 1, 1) := dk_27 (dk_at dksX8_script_3 4 rfl rfl)
theorem dX8_script_71 : decode cX8_script 71 = .ok (.imul, 1) := dk_104 (dk_at dksX8_script_3 5 rfl rfl)
theorem dX8_script_72 : decode cX8_script 72 = .ok (.iconst 1, 1) := dk_4 (dk_at dksX8_script_3 6 rfl rfl)
theorem dX8_script_73 : decode cX8_script 73 = .ok (.iadd, 1) := dk_96 (dk_at dksX8_script_3 7 rfl rfl)
theorem dX8_script_74 : decode cX8_script 74 = .ok (.iaload, 1) := dk_46 (dk_at dksX8_script_3 8 rfl rfl)
theorem dX8_script_75 : decode cX8_script 75 = .ok (.aload_n 0, 1) := dk_42 (dk_at dksX8_script_3 9 rfl rfl)
theorem dX8_script_76 : decode cX8_script 76 = .ok (.getfield 47, 3) := dk_180 0 47 (dk_at dksX8_script_3 10 rfl rfl)
theorem dX8_script_79 : decode cX8_script 79 = .ok (.iconst 3, 1) := dk_6 (dk_at dksX8_script_3 13 rfl rfl)
theorem dX8_script_80 : decode cX8_script 80 = .ok (.iload_n 1, 1) := dk_27 (dk_at dksX8_script_3 14 rfl rfl)
theorem dX8_script_81 : decode cX8_script 81 = .ok (.imul, 1) := dk_104 (dk_at dksX8_script_3 15 rfl rfl)
theorem dX8_script_82 : decode cX8_script 82 = .ok (.iconst 2, 1) := dk_5 (dk_at dksX8_script_3 16 rfl rfl)
theorem dX8_script_83 : decode cX8_script 83 = .ok (.iadd, 1) := dk_96 (dk_at dksX8_script_3 17 rfl rfl)
theorem dX8_script_84 : decode cX8_script 84 = .ok (.iaload, 1) := dk_46 (dk_at dksX8_script_3 18 rfl rfl)
theorem dX8_script_85 : decode cX8_script 85 = .ok (.invokevirtual 289, 3) := dk_182 1 33 (dk_at dksX8_script_3 19 rfl rfl)
theorem dX8_script_88 : decode cX8_script 88 = .ok (.ifCond .ge 32, 3) := dk_156 0 32 (dk_at dksX8_script_4 0 rfl rfl)
theorem dX8_script_91 : decode cX8_script 91 = .ok (.aload_n 0, 1) := dk_42 (dk_at dksX8_script_4 3 rfl rfl)
theorem dX8_script_92 : decode cX8_script 92 = .ok (.iconst 0, 1) := dk_3 (dk_at dksX8_script_4 4 rfl rfl)
theorem dX8_script_93 : decode cX8_script 93 = .ok (.bipush 11, 2) := dk_16 11 (dk_at dksX8_script_4 5 rfl rfl)
theorem dX8_script_95 : decode cX8_script 95 = .ok (.iload_n 1, 1) := dk_27 (dk_at dksX8_script_4 7 rfl rfl)
theorem dX8_script_96 : decode cX8_script 96 = .ok (.invokevirtual 69, 3) := dk_182 0 69 (dk_at dksX8_script_4 8 rfl rfl)
theorem dX8_script_99 : decode cX8_script 99 = .ok (.aload_n 0, 1) := dk_42 (dk_at dksX8_script_4 11 rfl rfl)
theorem dX8_script_100 : decode cX8_script 100 = .ok (.iconst 1, 1) := dk_4 (dk_at dksX8_script_4 12 rfl rfl)
theorem dX8_script_101 : decode cX8_script 101 = .ok (.invokevirtual 77, 3) := dk_182 0 77 (dk_at dksX8_script_4 13 rfl rfl)
theorem dX8_script_104 : decode cX8_script 104 = .ok (.aload_n 0, 1) := dk_42 (dk_at dksX8_script_4 16 rfl rfl)
theorem dX8_script_105 : decode cX8_script 105 = .ok (.getfield 13, 3) := dk_180 0 13 (dk_at dksX8_script_4 17 rfl rfl)
theorem dX8_script_108 : decode cX8_script 108 = .ok (.iconst 0, 1) := dk_3 (dk_at dksX8_script_4 20 rfl rfl)
theorem dX8_script_109 : decode cX8_script 109 = .ok (.aload_n 0, 1) := dk_42 (dk_at dksX8_script_4 21 rfl rfl)
theorem dX8_script_110 : decode cX8_script 110 = .ok (.getfield 9, 3) := dk_180 0 9 (dk_at dksX8_script_5 0 rfl rfl)
theorem dX8_script_113 : decode cX8_script 113 = .ok (.iconst 0, 1) := dk_3 (dk_at dksX8_script_5 3 rfl rfl)
theorem dX8_script_114 : decode cX8_script 114 = .ok (.invokestatic 73, 3) := dk_184 0 73 (dk_at dksX8_script_5 4 rfl rfl)
theorem dX8_script_117 : decode cX8_script 117 = .ok (.bipush (-3), 2) := dk_16 253 (dk_at dksX8_script_5 7 rfl rfl)
theorem dX8_script_119 : decode cX8_script 119 = .ok (.ireturn, 1) := dk_172 (dk_at dksX8_script_5 9 rfl rfl)
theorem dX8_script_120 : decode cX8_script 120 = .ok (.iinc 1 1, 3) := dk_132 1 1 (dk_at dksX8_script_5 10 rfl rfl)
theorem dX8_script_123 : decode cX8_script 123 = .ok (.goto (-81), 3) := dk_167 255 175 (dk_at dksX8_script_5 13 rfl rfl)
theorem dX8_script_126 : decode cX8_script 126 = .ok (.aload_n 0, 1) := dk_42 (dk_at dksX8_script_5 16 rfl rfl)
theorem dX8_script_127 : decode cX8_script 127 = .ok (.aload_n 0, 1) := dk_42 (dk_at dksX8_script_5 17 rfl rfl)
theorem dX8_script_128 : decode cX8_script 128 = .ok (.getfield 268, 3) := dk_180 1 12 (dk_at dksX8_script_5 18 rfl rfl)
theorem dX8_script_131 : decode cX8_script 131 = .ok (.invokevirtual 81, 3) := dk_182 0 81 (dk_at dksX8_script_5 21 rfl rfl)
theorem dX8_script_134 : decode cX8_script 134 = .ok (.ireturn, 1) := dk_172 (dk_at dksX8_script_6 0 rfl rfl)
def dkwX8_readsAll_2 : List UInt8 := [180, 1, 3, 2, 160, 0, 7, 42, 182, 1, 27, 167, 255, 216, 177]
abbrev dktX8_readsAll_2 : List UInt8 := dkwX8_readsAll_2 ++ []
def dkwX8_readsAll_1 : List UInt8 := [160, 0, 38, 42, 180, 0, 253, 42, 180, 1, 0, 162, 0, 27, 42, 16, 59, 16, 59, 182, 1, 9, 60, 42]
abbrev dktX8_readsAll_1 : List UInt8 := dkwX8_readsAll_1 ++ dktX8_readsAll_2
def dkwX8_readsAll_0 : List UInt8 := [42, 3, 181, 0, 253, 42, 2, 181, 1, 3, 42, 3, 181, 1, 12, 42, 182, 1, 27, 42, 180, 1, 3, 2]
abbrev dktX8_readsAll_0 : List UInt8 := dkwX8_readsAll_0 ++ dktX8_readsAll_1
theorem dksX8_readsAll_0 : cX8_readsAll.data.toList.drop 0 = dktX8_readsAll_0 := by decide +kernel
theorem dksX8_readsAll_1 : cX8_readsAll.data.toList.drop 24 = dktX8_readsAll_1 := dk_seg dksX8_readsAll_0 24 rfl rfl
theorem dksX8_readsAll_2 : cX8_readsAll.data.toList.drop 48 = dktX8_readsAll_2 := dk_seg dksX8_readsAll_1 24 rfl rfl
theorem dX8_readsAll_0 : decode cX8_readsAll 0 = .ok (.aload_n 0, 1) := dk_42 (dk_at dksX8_readsAll_0 0 rfl rfl)
theorem dX8_readsAll_1 : decode cX8_readsAll 1 = .ok (.iconst 0, 1) := dk_3 (dk_at dksX8_readsAll_0 1 rfl rfl)
theorem dX8_readsAll_2 : decode cX8_readsAll 2 = .ok (.putfield 253, 3) := dk_181 0 253 (dk_at dksX8_readsAll_0 2 rfl rfl)
theorem dX8_readsAll_5 : decode cX8_readsAll 5 = .ok (.aload_n 0, 1) := dk_42 (dk_at dksX8_readsAll_0 5 rfl rfl)
theorem dX8_readsAll_6 : decode cX8_readsAll 6 = .ok (.iconst (-1), 1) := dk_2 (dk_at dksX8_readsAll_0 6 rfl rfl)
theorem dX8_readsAll_7 : decode cX8_readsAll 7 = .ok (.putfield 259, 3) := dk_181 1 3 (dk_at dksX8_readsAll_0 7 rfl rfl)
theorem dX8_readsAll_10 : decode cX8_readsAll 10 = .ok (.aload_n 0, 1) := dk_42 (dk_at dksX8_readsAll_0 10 rfl rfl)
theorem dX8_readsAll_11 : decode cX8_readsAll 11 = .ok (.iconst 0, 1) := dk_3 (dk_at dksX8_readsAll_0 11 rfl rfl)
theorem dX8_readsAll_12 : decode cX8_readsAll 12 = .ok (.putfield 268, 3) := dk_181 1 12 (dk_at dksX8_readsAll_0 12 rfl rfl)
theorem dX8_readsAll_15 : decode cX8_readsAll 15 = .ok (.aload_n 0, 1) := dk_42 (dk_at dksX8_readsAll_0 15 rfl rfl)
theorem dX8_readsAll_16 : decode cX8_readsAll 16 = .ok (.invokevirtual 283, 3) := dk_182 1 27 (dk_at dksX8_readsAll_0 16 rfl rfl)
theorem dX8_readsAll_19 : decode cX8_readsAll 19 = .ok (.aload_n 0, 1) := dk_42 (dk_at dksX8_readsAll_0 19 rfl rfl)
theorem dX8_readsAll_20 : decode cX8_readsAll 20 = .ok (.getfield 259, 3) := dk_180 1 3 (dk_at dksX8_readsAll_0 20 rfl rfl)
theorem dX8_readsAll_23 : decode cX8_readsAll 23 = .ok (.iconst (-1), 1) := dk_2 (dk_at dksX8_readsAll_0 23 rfl rfl)
theorem dX8_readsAll_24 : decode cX8_readsAll 24 = .ok (.if_icmp .ne 38, 3) := dk_160 0 38 (dk_at dksX8_readsAll_1 0 rfl rfl)
theorem dX8_readsAll_27 : decode cX8_readsAll 27 = .ok (.aload_n 0, 1) := dk_42 (dk_at dksX8_readsAll_1 3 rfl rfl)
theorem dX8_readsAll_28 : decode cX8_readsAll 28 = .ok (.getfield 253, 3) := dk_180 0 253 (dk_at dksX8_readsAll_1 4 rfl rfl)
theorem dX8_readsAll_31 : decode cX8_readsAll 31 = .ok (.aload_n 0, 1) := dk_42 (dk_at dksX8_readsAll_1 7 rfl rfl)
theorem dX8_readsAll_32 : decode cX8_readsAll 32 = .ok (.getfield 256, 3) := dk_180 1 0 (dk_at dksX8_readsAll_1 8 rfl rfl)
theorem dX8_readsAll_35 : decode cX8_readsAll 35 = .ok (.if_icmp .ge 27, 3) := dk_162 0 27 (dk_at dksX8_readsAll_1 11 rfl rfl)
theorem dX8_readsAll_38 : decode cX8_readsAll 38 = .ok (.aload_n 0, 1) := dk_42 (dk_at dksX8_readsAll_1 14 rfl rfl)
theorem dX8_readsAll_39 : decode cX8_readsAll 39 = .ok (.bipush 59, 2) := dk_16 59 (dk_at dksX8_readsAll_1 15 rfl rfl)
theorem dX8_readsAll_41 : decode cX8_readsAll 41 = .ok (.bipush 59, 2) := dk_16 59 (dk_at dksX8_readsAll_1 17 rfl rfl)
theorem dX8_readsAll_43 : decode cX8_readsAll 43 = .ok (.invokevirtual 265, 3) := dk_182 1 9 (dk_at dksX8_readsAll_1 19 rfl rfl)
theorem dX8_readsAll_46 : decode cX8_readsAll 46 = .ok (.istore_n 1, 1) := dk_60 (dk_at dksX8_readsAll_1 22 rfl rfl)
theorem dX8_readsAll_47 : decode cX8_readsAll 47 = .ok (.aload_n 0, 1) := dk_42 (dk_at dksX8_readsAll_1 23 rfl rfl)
theorem dX8_readsAll_48 : decode cX8_readsAll 48 = .ok (.getfield 259, 3) := dk_180 1 3 (dk_at dksX8_readsAll_2 0 rfl rfl)
theorem dX8_readsAll_51 : decode cX8_readsAll 51 = .ok (.iconst (-1), 1) := dk_2 (dk_at dksX8_readsAll_2 3 rfl rfl)
theorem dX8_readsAll_52 : decode cX8_readsAll 52 = .ok (.if_icmp .ne 7, 3) := dk_160 0 7 (dk_at dksX8_readsAll_2 4 rfl rfl)
theorem dX8_readsAll_55 : decode cX8_readsAll 55 = .ok (.aload_n 0, 1) := dk_42 (dk_at dksX8_readsAll_2 7 rfl rfl)
theorem dX8_readsAll_56 : decode cX8_readsAll 56 = .ok (.invokevirtual 283, 3) := dk_182 1 27 (dk_at dksX8_readsAll_2 8 rfl rfl)
theorem dX8_readsAll_59 : decode cX8_readsAll 59 = .ok (.goto (-40), 3) := dk_167 255 216 (dk_at dksX8_readsAll_2 11 rfl rfl)
theorem dX8_readsAll_62 : decode cX8_readsAll 62 = .ok (.return_, 1) := dk_177 (dk_at dksX8_readsAll_2 14 rfl rfl)
def dkwX8_readsCommand_12 : List UInt8 := [180, 1, 3, 181, 1, 3, 42, 89, 180, 1, 12, 4, 96, 181, 1, 12, 177]
abbrev dktX8_readsCommand_12 : List UInt8 := dkwX8_readsCommand_12 ++ []
def dkwX8_readsCommand_11 : List UInt8 := [4, 100, 181, 0, 253, 42, 42, 180, 1, 3, 2, 160, 0, 10, 42, 180, 0, 253, 167, 0, 7, 42]
abbrev dktX8_readsCommand_11 : List UInt8 := dkwX8_readsCommand_11 ++ dktX8_readsCommand_12
def dkwX8_readsCommand_10 : List UInt8 := [167, 0, 52, 42, 3, 42, 16, 48, 16, 57, 182, 1, 9, 182, 1, 18, 167, 0, 36, 42, 89, 180, 0, 253]
abbrev dktX8_readsCommand_10 : List UInt8 := dkwX8_readsCommand_10 ++ dktX8_readsCommand_11
def dkwX8_readsCommand_9 : List UInt8 := [182, 1, 18, 167, 0, 71, 42, 3, 42, 182, 1, 21, 182, 1, 18, 167, 0, 59, 42, 182, 1, 24]
abbrev dktX8_readsCommand_9 : List UInt8 := dkwX8_readsCommand_9 ++ dktX8_readsCommand_10
def dkwX8_readsCommand_8 : List UInt8 := [16, 57, 182, 1, 9, 182, 1, 18, 42, 16, 58, 16, 58, 182, 1, 9, 61, 42, 5, 42, 182, 1, 21]
abbrev dktX8_readsCommand_8 : List UInt8 := dkwX8_readsCommand_8 ++ dktX8_readsCommand_9
def dkwX8_readsCommand_7 : List UInt8 := [16, 48, 16, 57, 182, 1, 9, 182, 1, 18, 42, 16, 60, 16, 60, 182, 1, 9, 61, 42, 4, 42, 16, 48]
abbrev dktX8_readsCommand_7 : List UInt8 := dkwX8_readsCommand_7 ++ dktX8_readsCommand_8
def dkwX8_readsCommand_6 : List UInt8 := [182, 1, 9, 61, 42, 5, 42, 16, 48, 16, 57, 182, 1, 9, 182, 1, 18, 167, 0, 127, 42, 3, 42]
abbrev dktX8_readsCommand_6 : List UInt8 := dkwX8_readsCommand_6 ++ dktX8_readsCommand_7
def dkwX8_readsCommand_5 : List UInt8 := [16, 58, 16, 58, 182, 1, 9, 61, 42, 4, 42, 182, 1, 21, 182, 1, 18, 42, 16, 64, 16, 64]
abbrev dktX8_readsCommand_5 : List UInt8 := dkwX8_readsCommand_5 ++ dktX8_readsCommand_6
def dkwX8_readsCommand_4 : List UInt8 := [42, 182, 1, 21, 182, 1, 18, 167, 0, 183, 42, 3, 42, 16, 48, 16, 57, 182, 1, 9, 182, 1, 18, 42]
abbrev dktX8_readsCommand_4 : List UInt8 := dkwX8_readsCommand_4 ++ dktX8_readsCommand_5
def dkwX8_readsCommand_3 : List UInt8 := [42, 3, 42, 16, 48, 16, 57, 182, 1, 9, 182, 1, 18, 42, 16, 42, 16, 42, 182, 1, 9, 61, 42, 4]
abbrev dktX8_readsCommand_3 : List UInt8 := dkwX8_readsCommand_3 ++ dktX8_readsCommand_4
def dkwX8_readsCommand_2 : List UInt8 := [170, 0, 0, 0, 0, 0, 1, 13, 0, 0, 0, 99, 0, 0, 0, 116, 0, 0, 0, 122, 0, 0, 1, 13, 0, 0, 1, 13, 0, 0, 1, 13, 0, 0, 0, 253, 0, 0, 0, 88, 0, 0, 1, 13, 0, 0, 1, 13, 0, 0, 0, 253, 0, 0, 1, 13, 0, 0, 1, 13, 0, 0, 0, 234, 0, 0, 1, 13, 0, 0, 1, 13, 0, 0, 1, 13, 0, 0, 1, 13, 0, 0, 0, 246, 0, 0, 0, 178]
abbrev dktX8_readsCommand_2 : List UInt8 := dkwX8_readsCommand_2 ++ dktX8_readsCommand_3
def dkwX8_readsCommand_1 : List UInt8 := [181, 0, 253, 3, 61, 27]
abbrev dktX8_readsCommand_1 : List UInt8 := dkwX8_readsCommand_1 ++ dktX8_readsCommand_2
def dkwX8_readsCommand_0 : List UInt8 := [42, 182, 1, 6, 60, 42, 180, 0, 44, 42, 180, 1, 12, 27, 79, 42, 89, 180, 0, 253, 4, 96]
abbrev dktX8_readsCommand_0 : List UInt8 := dkwX8_readsCommand_0 ++ dktX8_readsCommand_1
theorem dksX8_readsCommand_0 : cX8_readsCommand.data.toList.drop 0 = dktX8_readsCommand_0 := by decide +kernel
theorem dksX8_readsCommand_1 : cX8_readsCommand.data.toList.drop 22 = dktX8_readsCommand_1 := dk_seg dksX8_readsCommand_0 22 rfl rfl
theorem dksX8_readsCommand_2 : cX8_readsCommand.data.toList.drop 28 = dktX8_readsCommand_2 := dk_seg dksX8_readsCommand_1 6 rfl rfl
theorem dksX8_readsCommand_3 : cX8_readsCommand.data.toList.drop 116 = dktX8_readsCommand_3 := dk_seg dksX8_readsCommand_2 88 rfl rfl
theorem dksX8_readsCommand_4 : cX8_readsCommand.data.toList.drop 140 = dktX8_readsCommand_4 := dk_seg dksX8_readsCommand_3 24 rfl rfl
theorem dksX8_readsCommand_5 : cX8_readsCommand.data.toList.drop 164 = dktX8_readsCommand_5 := dk_seg dksX8_readsCommand_4 24 rfl rfl
theorem dksX8_readsCommand_6 : cX8_readsCommand.data.toList.drop 186 = dktX8_readsCommand_6 := dk_seg dksX8_readsCommand_5 22 rfl rfl
theorem dksX8_readsCommand_7 : cX8_readsCommand.data.toList.drop 209 = dktX8_readsCommand_7 := dk_seg dksX8_readsCommand_6 23 rfl rfl
theorem dksX8_readsCommand_8 : cX8_readsCommand.data.toList.drop 233 = dktX8_readsCommand_8 := dk_seg dksX8_readsCommand_7 24 rfl rfl
theorem dksX8_readsCommand_9 : cX8_readsCommand.data.toList.drop 256 = dktX8_readsCommand_9 := dk_seg dksX8_readsCommand_8 23 rfl rfl
theorem dksX8_readsCommand_10 : cX8_readsCommand.data.toList.drop 278 = dktX8_readsCommand_10 := dk_seg dksX8_readsCommand_9 22 rfl rfl
theorem dksX8_readsCommand_11 : cX8_readsCommand.data.toList.drop 302 = dktX8_readsCommand_11 := dk_seg dksX8_readsCommand_10 24 rfl rfl
theorem dksX8_readsCommand_12 : cX8_readsCommand.data.toList.drop 324 = dktX8_readsCommand_12 := dk_seg dksX8_readsCommand_11 22 rfl rfl
theorem dX8_readsCommand_0 : decode cX8_readsCommand 0 = .ok (.aload_n 0, 1) := dk_42 (dk_at dksX8_readsCommand_0 0 rfl rfl)
theorem dX8_readsCommand_1 : decode cX8_readsCommand 1 = .ok (.invokevirtual 262, 3) := dk_182 1 6 (dk_at dksX8_readsCommand_0 1 rfl rfl)
theorem dX8_readsCommand_4 : decode cX8_readsCommand 4 = .ok (.istore_n 1, 1) := dk_60 (dk_at dksX8_readsCommand_0 4 rfl rfl)
theorem dX8_readsCommand_5 : decode cX8_readsCommand 5 = .ok (.aload_n 0, 1) := dk_42 (dk_at dksX8_readsCommand_0 5 rfl rfl)
theorem dX8_readsCommand_6 : decode cX8_readsCommand 6 = .ok (.getfield 44, 3) := dk_180 0 44 (dk_at dksX8_readsCommand_0 6 rfl rfl)
theorem dX8_readsCommand_9 : decode cX8_readsCommand 9 = .ok (.aload_n 0, 1) := dk_42 (dk_at dksX8_readsCommand_0 9 rfl rfl)
theorem dX8_readsCommand_10 : decode cX8_readsCommand 10 = .ok (.getfield 268, 3) := dk_180 1 12 (dk_at dksX8_readsCommand_0 10 rfl rfl)
theorem dX8_readsCommand_13 : decode cX8_readsCommand 13 = .ok (.iload_n 1, 1) := dk_27 (dk_at dksX8_readsCommand_0 13 rfl rfl)
theorem dX8_readsCommand_14 : decode cX8_readsCommand 14 = .ok (.iastore, 1) := dk_79 (dk_at dksX8_readsCommand_0 14 rfl rfl)
theorem dX8_readsCommand_15 : decode cX8_readsCommand 15 = .ok (.aload_n 0, 1) := dk_42 (dk_at dksX8_readsCommand_0 15 rfl rfl)
theorem dX8_readsCommand_16 : decode cX8_readsCommand 16 = .ok (.dup, 1) := dk_89 (dk_at dksX8_readsCommand_0 16 rfl rfl)
theorem dX8_readsCommand_17 : decode cX8_readsCommand 17 = .ok (.getfield 253, 3) := dk_180 0 253 (dk_at dksX8_readsCommand_0 17 rfl rfl)
theorem dX8_readsCommand_20 : decode cX8_readsCommand 20 = .ok (.iconst 1, 1) := dk_4 (dk_at dksX8_readsCommand_0 20 rfl rfl)
theorem dX8_readsCommand_21 : decode cX8_readsCommand 21 = .ok (.iadd, 1) := dk_96 (dk_at dksX8_readsCommand_0 21 rfl rfl)
theorem dX8_readsCommand_22 : decode cX8_readsCommand 22 = .ok (.putfield 253, 3) := dk_181 0 253 (dk_at dksX8_readsCommand_1 0 rfl rfl)
theorem dX8_readsCommand_25 : decode cX8_readsCommand 25 = .ok (.iconst 0, 1) := dk_3 (dk_at dksX8_readsCommand_1 3 rfl rfl)
theorem dX8_readsCommand_26 : decode cX8_readsCommand 26 = .ok (.istore_n 2, 1) := dk_61 (dk_at dksX8_readsCommand_1 4 rfl rfl)
theorem dX8_readsCommand_27 : decode cX8_readsCommand 27 = .ok (.iload_n 1, 1) := dk_27 (dk_at dksX8_readsCommand_1 5 rfl rfl)
theorem dX8_readsCommand_28 : decode cX8_readsCommand 28 = .ok (.tableswitch 269 99 116 #[122, 269, 269, 269, 253, 88, 269, 269, 253, 269, 269, 234, 269, 269, 269, 269, 246, 178], 88) := by decide +kernel
theorem dX8_readsCommand_116 : decode cX8_readsCommand 116 = .ok (.aload_n 0, 1) := dk_42 (dk_at dksX8_readsCommand_3 0 rfl rfl)
theorem dX8_readsCommand_117 : decode cX8_readsCommand 117 = .ok (.iconst 0, 1) := dk_3 (dk_at dksX8_readsCommand_3 1 rfl rfl)
theorem dX8_readsCommand_118 : decode cX8_readsCommand 118 = .ok (.aload_n 0, 1) := dk_42 (dk_at dksX8_readsCommand_3 2 rfl rfl)
theorem dX8_readsCommand_119 : decode cX8_readsCommand 119 = .ok (.bipush 48, 2) := dk_16 48 (dk_at dksX8_readsCommand_3 3 rfl rfl)
theorem dX8_readsCommand_121 : decode cX8_readsCommand 121 = .ok (.bipush 57, 2) := dk_16 57 (dk_at dksX8_readsCommand_3 5 rfl rfl)
theorem dX8_readsCommand_123 : decode cX8_readsCommand 123 = .ok (.invokevirtual 265, 3) := dk_182 1 9 (dk_at dksX8_readsCommand_3 7 rfl rfl)
theorem dX8_readsCommand_126 : decode cX8_readsCommand 126 = .ok (.invokevirtual 274, 3) := dk_182 1 18 (dk_at dksX8_readsCommand_3 10 rfl rfl)
theorem dX8_readsCommand_129 : decode cX8_readsCommand 129 = .ok (.aload_n 0, 1) := dk_42 (dk_at dksX8_readsCommand_3 13 rfl rfl)
theorem dX8_readsCommand_130 : decode cX8_readsCommand 130 = .ok (.bipush 42, 2) := dk_16 42 (dk_at dksX8_readsCommand_3 14 rfl rfl)
theorem dX8_readsCommand_132 : decode cX8_readsCommand 132 = .ok (.bipush 42, 2) := dk_16 42 (dk_at dksX8_readsCommand_3 16 rfl rfl)
theorem dX8_readsCommand_134 : decode cX8_readsCommand 134 = .ok (.invokevirtual 265, 3) := dk_182 1 9 (dk_at dksX8_readsCommand_3 18 rfl rfl)
theorem dX8_readsCommand_137 : decode cX8_readsCommand 137 = .ok (.istore_n 2, 1) := dk_61 (dk_at dksX8_readsCommand_3 21 rfl rfl)
theorem dX8_readsCommand_138 : decode cX8_readsCommand 138 = .ok (.aload_n 0, 1) := dk_42 (dk_at dksX8_readsCommand_3 22 rfl rfl)
theorem dX8_readsCommand_139 : decode cX8_readsCommand 139 = .ok (.iconst 1, 1) := dk_4 (dk_at dksX8_readsCommand_3 23 rfl rfl)
theorem dX8_readsCommand_140 : decode cX8_readsCommand 140 = .ok (.aload_n 0, 1) := dk_42 (dk_at dksX8_readsCommand_4 0 rfl rfl)
theorem dX8_readsCommand_141 : decode cX8_readsCommand 141 = .ok (.invokevirtual 277, 3) := dk_182 1 21 (dk_at dksX8_readsCommand_4 1 rfl rfl)
theorem dX8_readsCommand_144 : decode cX8_readsCommand 144 = .ok (.invokevirtual 274, 3) := dk_182 1 18 (dk_at dksX8_readsCommand_4 4 rfl rfl)
theorem dX8_readsCommand_147 : decode cX8_readsCommand 147 = .ok (.goto 183, 3) := dk_167 0 183 (dk_at dksX8_readsCommand_4 7 rfl rfl)
theorem dX8_readsCommand_150 : decode cX8_readsCommand 150 = .ok (.aload_n 0, 1) := dk_42 (dk_at dksX8_readsCommand_4 10 rfl rfl)
theorem dX8_readsCommand_151 : decode cX8_readsCommand 151 = .ok (.iconst 0, 1) := dk_3 (dk_at dksX8_readsCommand_4 11 rfl rfl)
theorem dX8_readsCommand_152 : decode cX8_readsCommand 152 = .ok (.aload_n 0, 1) := dk_42 (dk_at dksX8_readsCommand_4 12 rfl rfl)
theorem dX8_readsCommand_153 : decode cX8_readsCommand 153 = .ok (.bipush 48, 2) := dk_16 48 (dk_at dksX8_readsCommand_4 13 rfl rfl)
theorem dX8_readsCommand_155 : decode cX8_readsCommand 155 = .ok (.bipush 57, 2) := dk_16 57 (dk_at dksX8_readsCommand_4 15 rfl rfl)
theorem dX8_readsCommand_157 : decode cX8_readsCommand 157 = .ok (.invokevirtual 265, 3) := dk_182 1 9 (dk_at dksX8_readsCommand_4 17 rfl rfl)
theorem dX8_readsCommand_160 : decode cX8_readsCommand 160 = .ok (.invokevirtual 274, 3) := dk_182 1 18 (dk_at dksX8_readsCommand_4 20 rfl rfl)
theorem dX8_readsCommand_163 : decode cX8_readsCommand 163 = .ok (.aload_n 0, 1) := dk_42 (dk_at dksX8_readsCommand_4 23 rfl rfl)
theorem dX8_readsCommand_164 : decode cX8_readsCommand 164 = .ok (.bipush 58, 2) := dk_16 58 (dk_at dksX8_readsCommand_5 0 rfl rfl)
theorem dX8_readsCommand_166 : decode cX8_readsCommand 166 = .ok (.bipush 58, 2) := dk_16 58 (dk_at dksX8_readsCommand_5 2 rfl rfl)
theorem dX8_readsCommand_168 : decode cX8_readsCommand 168 = .ok (.invokevirtual 265, 3) := dk_182 1 9 (dk_at dksX8_readsCommand_5 4 rfl rfl)
theorem dX8_readsCommand_171 : decode cX8_readsCommand 171 = .ok (.istore_n 2, 1) := dk_61 (dk_at dksX8_readsCommand_5 7 rfl rfl)
theorem dX8_readsCommand_172 : decode cX8_readsCommand 172 = .ok (.aload_n 0, 1) := dk_42 (dk_at dksX8_readsCommand_5 8 rfl rfl)
theorem dX8_readsCommand_173 : decode cX8_readsCommand 173 = .ok (.iconst 1, 1) := dk_4 (dk_at dksX8_readsCommand_5 9 rfl rfl)
theorem dX8_readsCommand_174 : decode cX8_readsCommand 174 = .ok (.aload_n 0, 1) := dk_42 (dk_at dksX8_readsCommand_5 10 rfl rfl)
theorem dX8_readsCommand_175 : decode cX8_readsCommand 175 = .ok (.invokevirtual 277, 3) := dk_182 1 21 (dk_at dksX8_readsCommand_5 11 rfl rfl)
theorem dX8_readsCommand_178 : decode cX8_readsCommand 178 = .ok (.invokevirtual 274, 3) := dk_182 1 18 (dk_at dksX8_readsCommand_5 14 rfl rfl)
theorem dX8_readsCommand_181 : decode cX8_readsCommand 181 = .ok (.aload_n 0, 1) := dk_42 (dk_at dksX8_readsCommand_5 17 rfl rfl)
theorem dX8_readsCommand_182 : decode cX8_readsCommand 182 = .ok (.bipush 64, 2) := dk_16 64 (dk_at dksX8_readsCommand_5 18 rfl rfl)
theorem dX8_readsCommand_184 : decode cX8_readsCommand 184 = .ok (.bipush 64, 2) := dk_16 64 (dk_at dksX8_readsCommand_5 20 rfl rfl)
theorem dX8_readsCommand_186 : decode cX8_readsCommand 186 = .ok (.invokevirtual 265, 3) := dk_182 1 9 (dk_at dksX8_readsCommand_6 0 rfl rfl)
theorem dX8_readsCommand_189 : decode cX8_readsCommand 189 = .ok (.istore_n 2, 1) := dk_61 (dk_at dksX8_readsCommand_6 3 rfl rfl)
theorem dX8_readsCommand_190 : decode cX8_readsCommand 190 = .ok (.aload_n 0, 1) := dk_42 (dk_at dksX8_readsCommand_6 4 rfl rfl)
theorem dX8_readsCommand_191 : decode cX8_readsCommand 191 = .ok (.iconst 2, 1) := dk_5 (dk_at dksX8_readsCommand_6 5 rfl rfl)
theorem dX8_readsCommand_192 : decode cX8_readsCommand 192 = .ok (.aload_n 0, 1) := dk_42 (dk_at dksX8_readsCommand_6 6 rfl rfl)
theorem dX8_readsCommand_193 : decode cX8_readsCommand 193 = .ok (.bipush 48, 2) := dk_16 48 (dk_at dksX8_readsCommand_6 7 rfl rfl)
theorem dX8_readsCommand_195 : decode cX8_readsCommand 195 = .ok (.bipush 57, 2) := dk_16 57 (dk_at dksX8_readsCommand_6 9 rfl rfl)
theorem dX8_readsCommand_197 : decode cX8_readsCommand 197 = .ok (.invokevirtual 265, 3) := dk_182 1 9 (dk_at dksX8_readsCommand_6 11 rfl rfl)
theorem dX8_readsCommand_200 : decode cX8_readsCommand 200 = .ok (.invokevirtual 274, 3) := dk_182 1 18 (dk_at dksX8_readsCommand_6 14 rfl rfl)
theorem dX8_readsCommand_203 : decode cX8_readsCommand 203 = .ok (.goto 127, 3) := dk_167 0 127 (dk_at dksX8_readsCommand_6 17 rfl rfl)
theorem dX8_readsCommand_206 : decode cX8_readsCommand 206 = .ok (.aload_n 0, 1) := dk_42 (dk_at dksX8_readsCommand_6 20 rfl rfl)
theorem dX8_readsCommand_207 : decode cX8_readsCommand 207 = .ok (.iconst 0, 1) := dk_3 (dk_at dksX8_readsCommand_6 21 rfl rfl)
theorem dX8_readsCommand_208 : decode cX8_readsCommand 208 = .ok (.aload_n 0, 1) := dk_42 (dk_at dksX8_readsCommand_6 22 rfl rfl)
theorem dX8_readsCommand_209 : decode cX8_readsCommand 209 = .ok (.bipush 48, 2) := dk_16 48 (dk_at dksX8_readsCommand_7 0 rfl rfl)
theorem dX8_readsCommand_211 : decode cX8_readsCommand 211 = .ok (.bipush 57, 2) := dk_16 57 (dk_at dksX8_readsCommand_7 2 rfl rfl)
theorem dX8_readsCommand_213 : decode cX8_readsCommand 213 = .ok (.invokevirtual 265, 3) := dk_182 1 9 (dk_at dksX8_readsCommand_7 4 rfl rfl)
theorem dX8_readsCommand_216 : decode cX8_readsCommand 216 = .ok (.invokevirtual 274, 3) := dk_182 1 18 (dk_at dksX8_readsCommand_7 7 rfl rfl)
theorem dX8_readsCommand_219 : decode cX8_readsCommand 219 = .ok (.aload_n 0, 1) := dk_42 (dk_at dksX8_readsCommand_7 10 rfl rfl)
theorem dX8_readsCommand_220 : decode cX8_readsCommand 220 = .ok (.bipush 60, 2) := dk_16 60 (dk_at dksX8_readsCommand_7 11 rfl rfl)
theorem dX8_readsCommand_222 : decode cX8_readsCommand 222 = .ok (.bipush 60, 2) := dk_16 60 (dk_at dksX8_readsCommand_7 13 rfl rfl)
theorem dX8_readsCommand_224 : decode cX8_readsCommand 224 = .ok (.invokevirtual 265, 3) := dk_182 1 9 (dk_at dksX8_readsCommand_7 15 rfl rfl)
theorem dX8_readsCommand_227 : decode cX8_readsCommand 227 = .ok (.istore_n 2, 1) := dk_61 (dk_at dksX8_readsCommand_7 18 rfl rfl)
theorem dX8_readsCommand_228 : decode cX8_readsCommand 228 = .ok (.aload_n 0, 1) := dk_42 (dk_at dksX8_readsCommand_7 19 rfl rfl)
theorem dX8_readsCommand_229 : decode cX8_readsCommand 229 = .ok (.iconst 1, 1) := dk_4 (dk_at dksX8_readsCommand_7 20 rfl rfl)
theorem dX8_readsCommand_230 : decode cX8_readsCommand 230 = .ok (.aload_n 0, 1) := dk_42 (dk_at dksX8_readsCommand_7 21 rfl rfl)
theorem dX8_readsCommand_231 : decode cX8_readsCommand 231 = .ok (.bipush 48, 2) := dk_16 48 (dk_at dksX8_readsCommand_7 22 rfl rfl)
theorem dX8_readsCommand_233 : decode cX8_readsCommand 233 = .ok (.bipush 57, 2) := dk_16 57 (dk_at dksX8_readsCommand_8 0 rfl rfl)
theorem dX8_readsCommand_235 : decode cX8_readsCommand 235 = .ok (.invokevirtual 265, 3) := dk_182 1 9 (dk_at dksX8_readsCommand_8 2 rfl rfl)
theorem dX8_readsCommand_238 : decode cX8_readsCommand 238 = .ok (.invokevirtual 274, 3) := dk_182 1 18 (dk_at dksX8_readsCommand_8 5 rfl rfl)
theorem dX8_readsCommand_241 : decode cX8_readsCommand 241 = .ok (.aload_n 0, 1) := dk_42 (dk_at dksX8_readsCommand_8 8 rfl rfl)
theorem dX8_readsCommand_242 : decode cX8_readsCommand 242 = .ok (.bipush 58, 2) := dk_16 58 (dk_at dksX8_readsCommand_8 9 rfl rfl)
theorem dX8_readsCommand_244 : decode cX8_readsCommand 244 = .ok (.bipush 58, 2) := dk_16 58 (dk_at dksX8_readsCommand_8 11 rfl rfl)
theorem dX8_readsCommand_246 : decode cX8_readsCommand 246 = .ok (.invokevirtual 265, 3) := dk_182 1 9 (dk_at dksX8_readsCommand_8 13 rfl rfl)
theorem dX8_readsCommand_249 : decode cX8_readsCommand 249 = .ok (.istore_n 2, 1) := dk_61 (dk_at dksX8_readsCommand_8 16 rfl rfl)
theorem dX8_readsCommand_250 : decode cX8_readsCommand 250 = .ok (.aload_n 0, 1) := dk_42 (dk_at dksX8_readsCommand_8 17 rfl rfl)
theorem dX8_readsCommand_251 : decode cX8_readsCommand 251 = .ok (.iconst 2, 1) := dk_5 (dk_at dksX8_readsCommand_8 18 rfl rfl)
theorem dX8_readsCommand_252 : decode cX8_readsCommand 252 = .ok (.aload_n 0, 1) := dk_42 (dk_at dksX8_readsCommand_8 19 rfl rfl)
theorem dX8_readsCommand_253 : decode cX8_readsCommand 253 = .ok (.invokevirtual 277, 3) := dk_182 1 21 (dk_at dksX8_readsCommand_8 20 rfl rfl)
theorem dX8_readsCommand_256 : decode cX8_readsCommand 256 = .ok (.invokevirtual 274, 3) := dk_182 1 18 (dk_at dksX8_readsCommand_9 0 rfl rfl)
theorem dX8_readsCommand_259 : decode cX8_readsCommand 259 = .ok (.goto 71, 3) := dk_167 0 71 (dk_at dksX8_readsCommand_9 3 rfl rfl)
theorem dX8_readsCommand_262 : decode cX8_readsCommand 262 = .ok (.aload_n 0, 1) := dk_42 (dk_at dksX8_readsCommand_9 6 rfl rfl)
theorem dX8_readsCommand_263 : decode cX8_readsCommand 263 = .ok (.iconst 0, 1) := dk_3 (dk_at dksX8_readsCommand_9 7 rfl rfl)
theorem dX8_readsCommand_264 : decode cX8_readsCommand 264 = .ok (.aload_n 0, 1) := dk_42 (dk_at dksX8_readsCommand_9 8 rfl rfl)
theorem dX8_readsCommand_265 : decode cX8_readsCommand 265 = .ok (.invokevirtual 277, 3) := dk_182 1 21 (dk_at dksX8_readsCommand_9 9 rfl rfl)
theorem dX8_readsCommand_268 : decode cX8_readsCommand 268 = .ok (.invokevirtual 274, 3) := dk_182 1 18 (dk_at dksX8_readsCommand_9 12 rfl rfl)
theorem dX8_readsCommand_271 : decode cX8_readsCommand 271 = .ok (.goto 59, 3) := dk_167 0 59 (dk_at dksX8_readsCommand_9 15 rfl rfl)
theorem dX8_readsCommand_274 : decode cX8_readsCommand 274 = .ok (.aload_n 0, 1) := dk_42 (dk_at dksX8_readsCommand_9 18 rfl rfl)
theorem dX8_readsCommand_275 : decode cX8_readsCommand 275 = .ok (.invokevirtual 280, 3) := dk_182 1 24 (dk_at dksX8_readsCommand_9 19 rfl rfl)
theorem dX8_readsCommand_278 : decode cX8_readsCommand 278 = .ok (.goto 52, 3) := dk_167 0 52 (dk_at dksX8_readsCommand_10 0 rfl rfl)
theorem dX8_readsCommand_281 : decode cX8_readsCommand 281 = .ok (.aload_n 0, 1) := dk_42 (dk_at dksX8_readsCommand_10 3 rfl rfl)
theorem dX8_readsCommand_282 : decode cX8_readsCommand 282 = .ok (.iconst 0, 1) := dk_3 (dk_at dksX8_readsCommand_10 4 rfl rfl)
theorem dX8_readsCommand_283 : decode cX8_readsCommand 283 = .ok (.aload_n 0, 1) := dk_42 (dk_at dksX8_readsCommand_10 5 rfl rfl)
theorem dX8_readsCommand_284 : decode cX8_readsCommand 284 = .ok (.bipush 48, 2) := dk_16 48 (dk_at dksX8_readsCommand_10 6 rfl rfl)
theorem dX8_readsCommand_286 : decode cX8_readsCommand 286 = .ok (.bipush 57, 2) := dk_16 57 (dk_at dksX8_readsCommand_10 8 rfl rfl)
theorem dX8_readsCommand_288 : decode cX8_readsCommand 288 = .ok (.invokevirtual 265, 3) := dk_182 1 9 (dk_at dksX8_readsCommand_10 10 rfl rfl)
theorem dX8_readsCommand_291 : decode cX8_readsCommand 291 = .ok (.invokevirtual 274, 3) := dk_182 1 18 (dk_at dksX8_readsCommand_10 13 rfl rfl)
theorem dX8_readsCommand_294 : decode cX8_readsCommand 294 = .ok (.goto 36, 3) := dk_167 0 36 (dk_at dksX8_readsCommand_10 16 rfl rfl)
theorem dX8_readsCommand_297 : decode cX8_readsCommand 297 = .ok (.aload_n 0, 1) := dk_42 (dk_at dksX8_readsCommand_10 19 rfl rfl)
theorem dX8_readsCommand_298 : decode cX8_readsCommand 298 = .ok (.dup, 1) := dk_89 (dk_at dksX8_readsCommand_10 20 rfl rfl)
theorem dX8_readsCommand_299 : decode cX8_readsCommand 299 = .ok (.getfield 253, 3) := dk_180 0 253 (dk_at dksX8_readsCommand_10 21 rfl rfl)
theorem dX8_readsCommand_302 : decode cX8_readsCommand 302 = .ok (.iconst 1, 1) := dk_4 (dk_at dksX8_readsCommand_11 0 rfl rfl)
theorem dX8_readsCommand_303 : decode cX8_readsCommand 303 = .ok (.isub, 1) := dk_100 (dk_at dksX8_readsCommand_11 1 rfl rfl)
theorem dX8_readsCommand_304 : decode cX8_readsCommand 304 = .ok (.putfield 253, 3) := dk_181 0 253 (dk_at dksX8_readsCommand_11 2 rfl rfl)
theorem dX8_readsCommand_307 : decode cX8_readsCommand 307 = .ok (.aload_n 0, 1) := dk_42 (dk_at dksX8_readsCommand_11 5 rfl rfl)
theorem dX8_readsCommand_308 : decode cX8_readsCommand 308 = .ok (.aload_n 0, 1) := dk_42 (dk_at dksX8_readsCommand_11 6 rfl rfl)
theorem dX8_readsCommand_309 : decode cX8_readsCommand 309 = .ok (.getfield 259, 3) := dk_180 1 3 (dk_at dksX8_readsCommand_11 7 rfl rfl)
theorem dX8_readsCommand_312 : decode cX8_readsCommand 312 = .ok (.iconst (-1), 1) := dk_2 (dk_at dksX8_readsCommand_11 10 rfl rfl)
theorem dX8_readsCommand_313 : decode cX8_readsCommand 313 = .ok (.if_icmp .ne 10, 3) := dk_160 0 10 (dk_at dksX8_readsCommand_11 11 rfl rfl)
theorem dX8_readsCommand_316 : decode cX8_readsCommand 316 = .ok (.aload_n 0, 1) := dk_42 (dk_at dksX8_readsCommand_11 14 rfl rfl)
theorem dX8_readsCommand_317 : decode cX8_readsCommand 317 = .ok (.getfield 253, 3) := dk_180 0 253 (dk_at dksX8_readsCommand_11 15 rfl rfl)
theorem dX8_readsCommand_320 : decode cX8_readsCommand 320 = .ok (.goto 7, 3) := dk_167 0 7 (dk_at dksX8_readsCommand_11 18 rfl rfl)
theorem dX8_readsCommand_323 : decode cX8_readsCommand 323 = .ok (.aload_n 0, 1) := dk_42 (dk_at dksX8_readsCommand_11 21 rfl rfl)
theorem dX8_readsCommand_324 : decode cX8_readsCommand 324 = .ok (.getfield 259, 3) := dk_180 1 3 (dk_at dksX8_readsCommand_12 0 rfl rfl)
theorem dX8_readsCommand_327 : decode cX8_readsCommand 327 = .ok (.putfield 259, 3) := dk_181 1 3 (dk_at dksX8_readsCommand_12 3 rfl rfl)
theorem dX8_readsCommand_330 : decode cX8_readsCommand 330 = .ok (.aload_n 0, 1) := dk_42 (dk_at dksX8_readsCommand_12 6 rfl rfl)
theorem dX8_readsCommand_331 : decode cX8_readsCommand 331 = .ok (.dup, 1) := dk_89 (dk_at dksX8_readsCommand_12 7 rfl rfl)
theorem dX8_readsCommand_332 : decode cX8_readsCommand 332 = .ok (.getfield 268, 3) := dk_180 1 12 (dk_at dksX8_readsCommand_12 8 rfl rfl)
theorem dX8_readsCommand_335 : decode cX8_readsCommand 335 = .ok (.iconst 1, 1) := dk_4 (dk_at dksX8_readsCommand_12 11 rfl rfl)
theorem dX8_readsCommand_336 : decode cX8_readsCommand 336 = .ok (.iadd, 1) := dk_96 (dk_at dksX8_readsCommand_12 12 rfl rfl)
theorem dX8_readsCommand_337 : decode cX8_readsCommand 337 = .ok (.putfield 268, 3) := dk_181 1 12 (dk_at dksX8_readsCommand_12 13 rfl rfl)
theorem dX8_readsCommand_340 : decode cX8_readsCommand 340 = .ok (.return_, 1) := dk_177 (dk_at dksX8_readsCommand_12 16 rfl rfl)
def dkwX8_sign_1 : List UInt8 := [172]
abbrev dktX8_sign_1 : List UInt8 := dkwX8_sign_1 ++ []
def dkwX8_sign_0 : List UInt8 := [42, 180, 0, 253, 42, 180, 1, 0, 162, 0, 15, 42, 180, 0, 31, 42, 180, 0, 253, 46, 167, 0, 4, 2]
abbrev dktX8_sign_0 : List UInt8 := dkwX8_sign_0 ++ dktX8_sign_1
theorem dksX8_sign_0 : cX8_sign.data.toList.drop 0 = dktX8_sign_0 := by decide +kernel
theorem dksX8_sign_1 : cX8_sign.data.toList.drop 24 = dktX8_sign_1 := dk_seg dksX8_sign_0 24 rfl rfl
theorem dX8_sign_0 : decode cX8_sign 0 = .ok (.aload_n 0, 1) := dk_42 (dk_at dksX8_sign_0 0 rfl rfl)
theorem dX8_sign_1 : decode cX8_sign 1 = .ok (.getfield 253, 3) := dk_180 0 253 (dk_at dksX8_sign_0 1 rfl rfl)
theorem dX8_sign_4 : decode cX8_sign 4 = .ok (.aload_n 0, 1) := dk_42 (dk_at dksX8_sign_0 4 rfl rfl)
theorem dX8_sign_5 : decode cX8_sign 5 = .ok (.getfield 256, 3) := dk_180 1 0 (dk_at dksX8_sign_0 5 rfl rfl)
theorem dX8_sign_8 : decode cX8_sign 8 = .ok (.if_icmp .ge 15, 3) := dk_162 0 15 (dk_at dksX8_sign_0 8 rfl rfl)
theorem dX8_sign_11 : decode cX8_sign 11 = .ok (.aload_n 0, 1) := dk_42 (dk_at dksX8_sign_0 11 rfl rfl)
theorem dX8_sign_12 : decode cX8_sign 12 = .ok (.getfield 31, 3) := dk_180 0 31 (dk_at dksX8_sign_0 12 rfl rfl)
theorem dX8_sign_15 : decode cX8_sign 15 = .ok (.aload_n 0, 1) := dk_42 (dk_at dksX8_sign_0 15 rfl rfl)
theorem dX8_sign_16 : decode cX8_sign 16 = .ok (.getfield 253, 3) := dk_180 0 253 (dk_at dksX8_sign_0 16 rfl rfl)
theorem dX8_sign_19 : decode cX8_sign 19 = .ok (.iaload, 1) := dk_46 (dk_at dksX8_sign_0 19 rfl rfl)
theorem dX8_sign_20 : decode cX8_sign 20 = .ok (.goto 4, 3) := dk_167 0 4 (dk_at dksX8_sign_0 20 rfl rfl)
theorem dX8_sign_23 : decode cX8_sign 23 = .ok (.iconst (-1), 1) := dk_2 (dk_at dksX8_sign_0 23 rfl rfl)
theorem dX8_sign_24 : decode cX8_sign 24 = .ok (.ireturn, 1) := dk_172 (dk_at dksX8_sign_1 0 rfl rfl)
def dkwX8_reads_2 : List UInt8 := [42, 180, 1, 3, 2, 160, 0, 10, 42, 180, 0, 253, 167, 0, 7, 42, 180, 1, 3, 181, 1, 3, 3, 172]
abbrev dktX8_reads_2 : List UInt8 := dkwX8_reads_2 ++ []
def dkwX8_reads_1 : List UInt8 := [180, 0, 253, 4, 96, 181, 0, 253, 42, 180, 0, 31, 42, 180, 0, 253, 4, 100, 46, 16, 48, 100, 172, 42]
abbrev dktX8_reads_1 : List UInt8 := dkwX8_reads_1 ++ dktX8_reads_2
def dkwX8_reads_0 : List UInt8 := [42, 180, 1, 3, 2, 160, 0, 40, 42, 182, 1, 6, 27, 28, 184, 0, 56, 153, 0, 28, 42, 89]
abbrev dktX8_reads_0 : List UInt8 := dkwX8_reads_0 ++ dktX8_reads_1
theorem dksX8_reads_0 : cX8_reads.data.toList.drop 0 = dktX8_reads_0 := by decide +kernel
theorem dksX8_reads_1 : cX8_reads.data.toList.drop 22 = dktX8_reads_1 := dk_seg dksX8_reads_0 22 rfl rfl
theorem dksX8_reads_2 : cX8_reads.data.toList.drop 46 = dktX8_reads_2 := dk_seg dksX8_reads_1 24 rfl rfl
theorem dX8_reads_0 : decode cX8_reads 0 = .ok (.aload_n 0, 1) := dk_42 (dk_at dksX8_reads_0 0 rfl rfl)
theorem dX8_reads_1 : decode cX8_reads 1 = .ok (.getfield 259, 3) := dk_180 1 3 (dk_at dksX8_reads_0 1 rfl rfl)
theorem dX8_reads_4 : decode cX8_reads 4 = .ok (.iconst (-1), 1) := dk_2 (dk_at dksX8_reads_0 4 rfl rfl)
theorem dX8_reads_5 : decode cX8_reads 5 = .ok (.if_icmp .ne 40, 3) := dk_160 0 40 (dk_at dksX8_reads_0 5 rfl rfl)
theorem dX8_reads_8 : decode cX8_reads 8 = .ok (.aload_n 0, 1) := dk_42 (dk_at dksX8_reads_0 8 rfl rfl)
theorem dX8_reads_9 : decode cX8_reads 9 = .ok (.invokevirtual 262, 3) := dk_182 1 6 (dk_at dksX8_reads_0 9 rfl rfl)
theorem dX8_reads_12 : decode cX8_reads 12 = .ok (.iload_n 1, 1) := dk_27 (dk_at dksX8_reads_0 12 rfl rfl)
theorem dX8_reads_13 : decode cX8_reads 13 = .ok (.iload_n 2, 1) := dk_28 (dk_at dksX8_reads_0 13 rfl rfl)
theorem dX8_reads_14 : decode cX8_reads 14 = .ok (.invokestatic 56, 3) := dk_184 0 56 (dk_at dksX8_reads_0 14 rfl rfl)
theorem dX8_reads_17 : decode cX8_reads 17 = .ok (.ifCond .eq 28, 3) := dk_153 0 28 (dk_at dksX8_reads_0 17 rfl rfl)
theorem dX8_reads_20 : decode cX8_reads 20 = .ok (.aload_n 0, 1) := dk_42 (dk_at dksX8_reads_0 20 rfl rfl)
theorem dX8_reads_21 : decode cX8_reads 21 = .ok (.dup, 1) := dk_89 (dk_at dksX8_reads_0 21 rfl rfl)
theorem dX8_reads_22 : decode cX8_reads 22 = .ok (.getfield 253, 3) := dk_180 0 253 (dk_at dksX8_reads_1 0 rfl rfl)
theorem dX8_reads_25 : decode cX8_reads 25 = .ok (.iconst 1, 1) := dk_4 (dk_at dksX8_reads_1 3 rfl rfl)
theorem dX8_reads_26 : decode cX8_reads 26 = .ok (.iadd, 1) := dk_96 (dk_at dksX8_reads_1 4 rfl rfl)
theorem dX8_reads_27 : decode cX8_reads 27 = .ok (.putfield 253, 3) := dk_181 0 253 (dk_at dksX8_reads_1 5 rfl rfl)
theorem dX8_reads_30 : decode cX8_reads 30 = .ok (.aload_n 0, 1) := dk_42 (dk_at dksX8_reads_1 8 rfl rfl)
theorem dX8_reads_31 : decode cX8_reads 31 = .ok (.getfield 31, 3) := dk_180 0 31 (dk_at dksX8_reads_1 9 rfl rfl)
theorem dX8_reads_34 : decode cX8_reads 34 = .ok (.aload_n 0, 1) := dk_42 (dk_at dksX8_reads_1 12 rfl rfl)
theorem dX8_reads_35 : decode cX8_reads 35 = .ok (.getfield 253, 3) := dk_180 0 253 (dk_at dksX8_reads_1 13 rfl rfl)
theorem dX8_reads_38 : decode cX8_reads 38 = .ok (.iconst 1, 1) := dk_4 (dk_at dksX8_reads_1 16 rfl rfl)
theorem dX8_reads_39 : decode cX8_reads 39 = .ok (.isub, 1) := dk_100 (dk_at dksX8_reads_1 17 rfl rfl)
theorem dX8_reads_40 : decode cX8_reads 40 = .ok (.iaload, 1) := dk_46 (dk_at dksX8_reads_1 18 rfl rfl)
theorem dX8_reads_41 : decode cX8_reads 41 = .ok (.bipush 48, 2) := dk_16 48 (dk_at dksX8_reads_1 19 rfl rfl)
theorem dX8_reads_43 : decode cX8_reads 43 = .ok (.isub, 1) := dk_100 (dk_at dksX8_reads_1 21 rfl rfl)
theorem dX8_reads_44 : decode cX8_reads 44 = .ok (.ireturn, 1) := dk_172 (dk_at dksX8_reads_1 22 rfl rfl)
theorem dX8_reads_45 : decode cX8_reads 45 = .ok (.aload_n 0, 1) := dk_42 (dk_at dksX8_reads_1 23 rfl rfl)
theorem dX8_reads_46 : decode cX8_reads 46 = .ok (.aload_n 0, 1) := dk_42 (dk_at dksX8_reads_2 0 rfl rfl)
theorem dX8_reads_47 : decode cX8_reads 47 = .ok (.getfield 259, 3) := dk_180 1 3 (dk_at dksX8_reads_2 1 rfl rfl)
theorem dX8_reads_50 : decode cX8_reads 50 = .ok (.iconst (-1), 1) := dk_2 (dk_at dksX8_reads_2 4 rfl rfl)
theorem dX8_reads_51 : decode cX8_reads 51 = .ok (.if_icmp .ne 10, 3) := dk_160 0 10 (dk_at dksX8_reads_2 5 rfl rfl)
theorem dX8_reads_54 : decode cX8_reads 54 = .ok (.aload_n 0, 1) := dk_42 (dk_at dksX8_reads_2 8 rfl rfl)
theorem dX8_reads_55 : decode cX8_reads 55 = .ok (.getfield 253, 3) := dk_180 0 253 (dk_at dksX8_reads_2 9 rfl rfl)
theorem dX8_reads_58 : decode cX8_reads 58 = .ok (.goto 7, 3) := dk_167 0 7 (dk_at dksX8_reads_2 12 rfl rfl)
theorem dX8_reads_61 : decode cX8_reads 61 = .ok (.aload_n 0, 1) := dk_42 (dk_at dksX8_reads_2 15 rfl rfl)
theorem dX8_reads_62 : decode cX8_reads 62 = .ok (.getfield 259, 3) := dk_180 1 3 (dk_at dksX8_reads_2 16 rfl rfl)
theorem dX8_reads_65 : decode cX8_reads 65 = .ok (.putfield 259, 3) := dk_181 1 3 (dk_at dksX8_reads_2 19 rfl rfl)
theorem dX8_reads_68 : decode cX8_reads 68 = .ok (.iconst 0, 1) := dk_3 (dk_at dksX8_reads_2 22 rfl rfl)
theorem dX8_reads_69 : decode cX8_reads 69 = .ok (.ireturn, 1) := dk_172 (dk_at dksX8_reads_2 23 rfl rfl)
def dkwX8_tells_0 : List UInt8 := [42, 180, 0, 47, 6, 42, 180, 1, 12, 104, 27, 96, 28, 79, 177]
abbrev dktX8_tells_0 : List UInt8 := dkwX8_tells_0 ++ []
theorem dksX8_tells_0 : cX8_tells.data.toList.drop 0 = dktX8_tells_0 := by decide +kernel
theorem dX8_tells_0 : decode cX8_tells 0 = .ok (.aload_n 0, 1) := dk_42 (dk_at dksX8_tells_0 0 rfl rfl)
theorem dX8_tells_1 : decode cX8_tells 1 = .ok (.getfield 47, 3) := dk_180 0 47 (dk_at dksX8_tells_0 1 rfl rfl)
theorem dX8_tells_4 : decode cX8_tells 4 = .ok (.iconst 3, 1) := dk_6 (dk_at dksX8_tells_0 4 rfl rfl)
theorem dX8_tells_5 : decode cX8_tells 5 = .ok (.aload_n 0, 1) := dk_42 (dk_at dksX8_tells_0 5 rfl rfl)
theorem dX8_tells_6 : decode cX8_tells 6 = .ok (.getfield 268, 3) := dk_180 1 12 (dk_at dksX8_tells_0 6 rfl rfl)
theorem dX8_tells_9 : decode cX8_tells 9 = .ok (.imul, 1) := dk_104 (dk_at dksX8_tells_0 9 rfl rfl)
theorem dX8_tells_10 : decode cX8_tells 10 = .ok (.iload_n 1, 1) := dk_27 (dk_at dksX8_tells_0 10 rfl rfl)
theorem dX8_tells_11 : decode cX8_tells 11 = .ok (.iadd, 1) := dk_96 (dk_at dksX8_tells_0 11 rfl rfl)
theorem dX8_tells_12 : decode cX8_tells 12 = .ok (.iload_n 2, 1) := dk_28 (dk_at dksX8_tells_0 12 rfl rfl)
theorem dX8_tells_13 : decode cX8_tells 13 = .ok (.iastore, 1) := dk_79 (dk_at dksX8_tells_0 13 rfl rfl)
theorem dX8_tells_14 : decode cX8_tells 14 = .ok (.return_, 1) := dk_177 (dk_at dksX8_tells_0 14 rfl rfl)
def dkwX8_number_2 : List UInt8 := [182, 1, 9, 96, 60, 132, 2, 1, 167, 255, 212, 27, 172]
abbrev dktX8_number_2 : List UInt8 := dkwX8_number_2 ++ []
def dkwX8_number_1 : List UInt8 := [42, 182, 1, 6, 16, 48, 16, 57, 184, 0, 56, 153, 0, 23, 16, 10, 27, 104, 42, 16, 48, 16, 57]
abbrev dktX8_number_1 : List UInt8 := dkwX8_number_1 ++ dktX8_number_2
def dkwX8_number_0 : List UInt8 := [42, 16, 48, 16, 57, 182, 1, 9, 60, 4, 61, 28, 6, 162, 0, 45, 42, 180, 1, 3, 2, 160, 0, 37]
abbrev dktX8_number_0 : List UInt8 := dkwX8_number_0 ++ dktX8_number_1
theorem dksX8_number_0 : cX8_number.data.toList.drop 0 = dktX8_number_0 := by decide +kernel
theorem dksX8_number_1 : cX8_number.data.toList.drop 24 = dktX8_number_1 := dk_seg dksX8_number_0 24 rfl rfl
theorem dksX8_number_2 : cX8_number.data.toList.drop 47 = dktX8_number_2 := dk_seg dksX8_number_1 23 rfl rfl
theorem dX8_number_0 : decode cX8_number 0 = .ok (.aload_n 0, 1) := dk_42 (dk_at dksX8_number_0 0 rfl rfl)
theorem dX8_number_1 : decode cX8_number 1 = .ok (.bipush 48, 2) := dk_16 48 (dk_at dksX8_number_0 1 rfl rfl)
theorem dX8_number_3 : decode cX8_number 3 = .ok (.bipush 57, 2) := dk_16 57 (dk_at dksX8_number_0 3 rfl rfl)
theorem dX8_number_5 : decode cX8_number 5 = .ok (.invokevirtual 265, 3) := dk_182 1 9 (dk_at dksX8_number_0 5 rfl rfl)
theorem dX8_number_8 : decode cX8_number 8 = .ok (.istore_n 1, 1) := dk_60 (dk_at dksX8_number_0 8 rfl rfl)
theorem dX8_number_9 : decode cX8_number 9 = .ok (.iconst 1, 1) := dk_4 (dk_at dksX8_number_0 9 rfl rfl)
theorem dX8_number_10 : decode cX8_number 10 = .ok (.istore_n 2, 1) := dk_61 (dk_at dksX8_number_0 10 rfl rfl)
theorem dX8_number_11 : decode cX8_number 11 = .ok (.iload_n 2, 1) := dk_28 (dk_at dksX8_number_0 11 rfl rfl)
theorem dX8_number_12 : decode cX8_number 12 = .ok (.iconst 3, 1) := dk_6 (dk_at dksX8_number_0 12 rfl rfl)
theorem dX8_number_13 : decode cX8_number 13 = .ok (.if_icmp .ge 45, 3) := dk_162 0 45 (dk_at dksX8_number_0 13 rfl rfl)
theorem dX8_number_16 : decode cX8_number 16 = .ok (.aload_n 0, 1) := dk_42 (dk_at dksX8_number_0 16 rfl rfl)
theorem dX8_number_17 : decode cX8_number 17 = .ok (.getfield 259, 3) := dk_180 1 3 (dk_at dksX8_number_0 17 rfl rfl)
theorem dX8_number_20 : decode cX8_number 20 = .ok (.iconst (-1), 1) := dk_2 (dk_at dksX8_number_0 20 rfl rfl)
theorem dX8_number_21 : decode cX8_number 21 = .ok (.if_icmp .ne 37, 3) := dk_160 0 37 (dk_at dksX8_number_0 21 rfl rfl)
theorem dX8_number_24 : decode cX8_number 24 = .ok (.aload_n 0, 1) := dk_42 (dk_at dksX8_number_1 0 rfl rfl)
theorem dX8_number_25 : decode cX8_number 25 = .ok (.invokevirtual 262, 3) := dk_182 1 6 (dk_at dksX8_number_1 1 rfl rfl)
theorem dX8_number_28 : decode cX8_number 28 = .ok (.bipush 48, 2) := dk_16 48 (dk_at dksX8_number_1 4 rfl rfl)
theorem dX8_number_30 : decode cX8_number 30 = .ok (.bipush 57, 2) := dk_16 57 (dk_at dksX8_number_1 6 rfl rfl)
theorem dX8_number_32 : decode cX8_number 32 = .ok (.invokestatic 56, 3) := dk_184 0 56 (dk_at dksX8_number_1 8 rfl rfl)
theorem dX8_number_35 : decode cX8_number 35 = .ok (.ifCond .eq 23, 3) := dk_153 0 23 (dk_at dksX8_number_1 11 rfl rfl)
theorem dX8_number_38 : decode cX8_number 38 = .ok (.bipush 10, 2) := dk_16 10 (dk_at dksX8_number_1 14 rfl rfl)
theorem dX8_number_40 : decode cX8_number 40 = .ok (.iload_n 1, 1) := dk_27 (dk_at dksX8_number_1 16 rfl rfl)
theorem dX8_number_41 : decode cX8_number 41 = .ok (.imul, 1) := dk_104 (dk_at dksX8_number_1 17 rfl rfl)
theorem dX8_number_42 : decode cX8_number 42 = .ok (.aload_n 0, 1) := dk_42 (dk_at dksX8_number_1 18 rfl rfl)
theorem dX8_number_43 : decode cX8_number 43 = .ok (.bipush 48, 2) := dk_16 48 (dk_at dksX8_number_1 19 rfl rfl)
theorem dX8_number_45 : decode cX8_number 45 = .ok (.bipush 57, 2) := dk_16 57 (dk_at dksX8_number_1 21 rfl rfl)
theorem dX8_number_47 : decode cX8_number 47 = .ok (.invokevirtual 265, 3) := dk_182 1 9 (dk_at dksX8_number_2 0 rfl rfl)
theorem dX8_number_50 : decode cX8_number 50 = .ok (.iadd, 1) := dk_96 (dk_at dksX8_number_2 3 rfl rfl)
theorem dX8_number_51 : decode cX8_number 51 = .ok (.istore_n 1, 1) := dk_60 (dk_at dksX8_number_2 4 rfl rfl)
theorem dX8_number_52 : decode cX8_number 52 = .ok (.iinc 2 1, 3) := dk_132 2 1 (dk_at dksX8_number_2 5 rfl rfl)
theorem dX8_number_55 : decode cX8_number 55 = .ok (.goto (-44), 3) := dk_167 255 212 (dk_at dksX8_number_2 8 rfl rfl)
theorem dX8_number_58 : decode cX8_number 58 = .ok (.iload_n 1, 1) := dk_27 (dk_at dksX8_number_2 11 rfl rfl)
theorem dX8_number_59 : decode cX8_number 59 = .ok (.ireturn, 1) := dk_172 (dk_at dksX8_number_2 12 rfl rfl)
def dkwX8_readsSale_3 : List UInt8 := [181, 0, 253, 177]
abbrev dktX8_readsSale_3 : List UInt8 := dkwX8_readsSale_3 ++ []
def dkwX8_readsSale_2 : List UInt8 := [4, 167, 0, 4, 3, 182, 1, 18, 42, 89, 180, 0, 253, 27, 153, 0, 7, 4, 167, 0, 4, 3, 96]
abbrev dktX8_readsSale_2 : List UInt8 := dkwX8_readsSale_2 ++ dktX8_readsSale_3
def dkwX8_readsSale_1 : List UInt8 := [160, 0, 16, 42, 182, 1, 6, 16, 104, 160, 0, 7, 4, 167, 0, 4, 3, 60, 42, 5, 27, 153, 0, 7]
abbrev dktX8_readsSale_1 : List UInt8 := dkwX8_readsSale_1 ++ dktX8_readsSale_2
def dkwX8_readsSale_0 : List UInt8 := [42, 3, 42, 182, 1, 15, 182, 1, 18, 42, 4, 42, 182, 1, 21, 182, 1, 18, 42, 180, 1, 3, 2]
abbrev dktX8_readsSale_0 : List UInt8 := dkwX8_readsSale_0 ++ dktX8_readsSale_1
theorem dksX8_readsSale_0 : cX8_readsSale.data.toList.drop 0 = dktX8_readsSale_0 := by decide +kernel
theorem dksX8_readsSale_1 : cX8_readsSale.data.toList.drop 23 = dktX8_readsSale_1 := dk_seg dksX8_readsSale_0 23 rfl rfl
theorem dksX8_readsSale_2 : cX8_readsSale.data.toList.drop 47 = dktX8_readsSale_2 := dk_seg dksX8_readsSale_1 24 rfl rfl
theorem dksX8_readsSale_3 : cX8_readsSale.data.toList.drop 70 = dktX8_readsSale_3 := dk_seg dksX8_readsSale_2 23 rfl rfl
theorem dX8_readsSale_0 : decode cX8_readsSale 0 = .ok (.aload_n 0, 1) := dk_42 (dk_at dksX8_readsSale_0 0 rfl rfl)
theorem dX8_readsSale_1 : decode cX8_readsSale 1 = .ok (.iconst 0, 1) := dk_3 (dk_at dksX8_readsSale_0 1 rfl rfl)
theorem dX8_readsSale_2 : decode cX8_readsSale 2 = .ok (.aload_n 0, 1) := dk_42 (dk_at dksX8_readsSale_0 2 rfl rfl)
theorem dX8_readsSale_3 : decode cX8_readsSale 3 = .ok (.invokevirtual 271, 3) := dk_182 1 15 (dk_at dksX8_readsSale_0 3 rfl rfl)
theorem dX8_readsSale_6 : decode cX8_readsSale 6 = .ok (.invokevirtual 274, 3) := dk_182 1 18 (dk_at dksX8_readsSale_0 6 rfl rfl)
theorem dX8_readsSale_9 : decode cX8_readsSale 9 = .ok (.aload_n 0, 1) := dk_42 (dk_at dksX8_readsSale_0 9 rfl rfl)
theorem dX8_readsSale_10 : decode cX8_readsSale 10 = .ok (.iconst 1, 1) := dk_4 (dk_at dksX8_readsSale_0 10 rfl rfl)
theorem dX8_readsSale_11 : decode cX8_readsSale 11 = .ok (.aload_n 0, 1) := dk_42 (dk_at dksX8_readsSale_0 11 rfl rfl)
theorem dX8_readsSale_12 : decode cX8_readsSale 12 = .ok (.invokevirtual 277, 3) := dk_182 1 21 (dk_at dksX8_readsSale_0 12 rfl rfl)
theorem dX8_readsSale_15 : decode cX8_readsSale 15 = .ok (.invokevirtual 274, 3) := dk_182 1 18 (dk_at dksX8_readsSale_0 15 rfl rfl)
theorem dX8_readsSale_18 : decode cX8_readsSale 18 = .ok (.aload_n 0, 1) := dk_42 (dk_at dksX8_readsSale_0 18 rfl rfl)
theorem dX8_readsSale_19 : decode cX8_readsSale 19 = .ok (.getfield 259, 3) := dk_180 1 3 (dk_at dksX8_readsSale_0 19 rfl rfl)
theorem dX8_readsSale_22 : decode cX8_readsSale 22 = .ok (.iconst (-1), 1) := dk_2 (dk_at dksX8_readsSale_0 22 rfl rfl)
theorem dX8_readsSale_23 : decode cX8_readsSale 23 = .ok (.if_icmp .ne 16, 3) := dk_160 0 16 (dk_at dksX8_readsSale_1 0 rfl rfl)
theorem dX8_readsSale_26 : decode cX8_readsSale 26 = .ok (.aload_n 0, 1) := dk_42 (dk_at dksX8_readsSale_1 3 rfl rfl)
theorem dX8_readsSale_27 : decode cX8_readsSale 27 = .ok (.invokevirtual 262, 3) := dk_182 1 6 (dk_at dksX8_readsSale_1 4 rfl rfl)
theorem dX8_readsSale_30 : decode cX8_readsSale 30 = .ok (.bipush 104, 2) := dk_16 104 (dk_at dksX8_readsSale_1 7 rfl rfl)
theorem dX8_readsSale_32 : decode cX8_readsSale 32 = .ok (.if_icmp .ne 7, 3) := dk_160 0 7 (dk_at dksX8_readsSale_1 9 rfl rfl)
theorem dX8_readsSale_35 : decode cX8_readsSale 35 = .ok (.iconst 1, 1) := dk_4 (dk_at dksX8_readsSale_1 12 rfl rfl)
theorem dX8_readsSale_36 : decode cX8_readsSale 36 = .ok (.goto 4, 3) := dk_167 0 4 (dk_at dksX8_readsSale_1 13 rfl rfl)
theorem dX8_readsSale_39 : decode cX8_readsSale 39 = .ok (.iconst 0, 1) := dk_3 (dk_at dksX8_readsSale_1 16 rfl rfl)
theorem dX8_readsSale_40 : decode cX8_readsSale 40 = .ok (.istore_n 1, 1) := dk_60 (dk_at dksX8_readsSale_1 17 rfl rfl)
theorem dX8_readsSale_41 : decode cX8_readsSale 41 = .ok (.aload_n 0, 1) := dk_42 (dk_at dksX8_readsSale_1 18 rfl rfl)
theorem dX8_readsSale_42 : decode cX8_readsSale 42 = .ok (.iconst 2, 1) := dk_5 (dk_at dksX8_readsSale_1 19 rfl rfl)
theorem dX8_readsSale_43 : decode cX8_readsSale 43 = .ok (.iload_n 1, 1) := dk_27 (dk_at dksX8_readsSale_1 20 rfl rfl)
theorem dX8_readsSale_44 : decode cX8_readsSale 44 = .ok (.ifCond .eq 7, 3) := dk_153 0 7 (dk_at dksX8_readsSale_1 21 rfl rfl)
theorem dX8_readsSale_47 : decode cX8_readsSale 47 = .ok (.iconst 1, 1) := dk_4 (dk_at dksX8_readsSale_2 0 rfl rfl)
theorem dX8_readsSale_48 : decode cX8_readsSale 48 = .ok (.goto 4, 3) := dk_167 0 4 (dk_at dksX8_readsSale_2 1 rfl rfl)
theorem dX8_readsSale_51 : decode cX8_readsSale 51 = .ok (.iconst 0, 1) := dk_3 (dk_at dksX8_readsSale_2 4 rfl rfl)
theorem dX8_readsSale_52 : decode cX8_readsSale 52 = .ok (.invokevirtual 274, 3) := dk_182 1 18 (dk_at dksX8_readsSale_2 5 rfl rfl)
theorem dX8_readsSale_55 : decode cX8_readsSale 55 = .ok (.aload_n 0, 1) := dk_42 (dk_at dksX8_readsSale_2 8 rfl rfl)
theorem dX8_readsSale_56 : decode cX8_readsSale 56 = .ok (.dup, 1) := dk_89 (dk_at dksX8_readsSale_2 9 rfl rfl)
theorem dX8_readsSale_57 : decode cX8_readsSale 57 = .ok (.getfield 253, 3) := dk_180 0 253 (dk_at dksX8_readsSale_2 10 rfl rfl)
theorem dX8_readsSale_60 : decode cX8_readsSale 60 = .ok (.iload_n 1, 1) := dk_27 (dk_at dksX8_readsSale_2 13 rfl rfl)
theorem dX8_readsSale_61 : decode cX8_readsSale 61 = .ok (.ifCond .eq 7, 3) := dk_153 0 7 (dk_at dksX8_readsSale_2 14 rfl rfl)
theorem dX8_readsSale_64 : decode cX8_readsSale 64 = .ok (.iconst 1, 1) := dk_4 (dk_at dksX8_readsSale_2 17 rfl rfl)
theorem dX8_readsSale_65 : decode cX8_readsSale 65 = .ok (.goto 4, 3) := dk_167 0 4 (dk_at dksX8_readsSale_2 18 rfl rfl)
theorem dX8_readsSale_68 : decode cX8_readsSale 68 = .ok (.iconst 0, 1) := dk_3 (dk_at dksX8_readsSale_2 21 rfl rfl)
theorem dX8_readsSale_69 : decode cX8_readsSale 69 = .ok (.iadd, 1) := dk_96 (dk_at dksX8_readsSale_2 22 rfl rfl)
theorem dX8_readsSale_70 : decode cX8_readsSale 70 = .ok (.putfield 253, 3) := dk_181 0 253 (dk_at dksX8_readsSale_3 0 rfl rfl)
theorem dX8_readsSale_73 : decode cX8_readsSale 73 = .ok (.return_, 1) := dk_177 (dk_at dksX8_readsSale_3 3 rfl rfl)
def dkwX8_readsKind_3 : List UInt8 := [28, 2, 160, 0, 7, 3, 167, 0, 4, 4, 96, 181, 0, 253, 28, 172]
abbrev dktX8_readsKind_3 : List UInt8 := dkwX8_readsKind_3 ++ []
def dkwX8_readsKind_2 : List UInt8 := [28, 2, 160, 0, 10, 42, 180, 0, 253, 167, 0, 7, 42, 180, 1, 3, 181, 1, 3, 42, 89, 180, 0, 253]
abbrev dktX8_readsKind_2 : List UInt8 := dkwX8_readsKind_2 ++ dktX8_readsKind_3
def dkwX8_readsKind_1 : List UInt8 := [167, 0, 14, 27, 16, 98, 160, 0, 7, 5, 167, 0, 4, 2, 61, 42, 42, 180, 1, 3, 2, 160, 0, 15]
abbrev dktX8_readsKind_1 : List UInt8 := dkwX8_readsKind_1 ++ dktX8_readsKind_2
def dkwX8_readsKind_0 : List UInt8 := [42, 182, 1, 6, 60, 27, 16, 119, 160, 0, 7, 3, 167, 0, 24, 27, 16, 114, 160, 0, 7, 4]
abbrev dktX8_readsKind_0 : List UInt8 := dkwX8_readsKind_0 ++ dktX8_readsKind_1
theorem dksX8_readsKind_0 : cX8_readsKind.data.toList.drop 0 = dktX8_readsKind_0 := by decide +kernel
theorem dksX8_readsKind_1 : cX8_readsKind.data.toList.drop 22 = dktX8_readsKind_1 := dk_seg dksX8_readsKind_0 22 rfl rfl
theorem dksX8_readsKind_2 : cX8_readsKind.data.toList.drop 46 = dktX8_readsKind_2 := dk_seg dksX8_readsKind_1 24 rfl rfl
theorem dksX8_readsKind_3 : cX8_readsKind.data.toList.drop 70 = dktX8_readsKind_3 := dk_seg dksX8_readsKind_2 24 rfl rfl
theorem dX8_readsKind_0 : decode cX8_readsKind 0 = .ok (.aload_n 0, 1) := dk_42 (dk_at dksX8_readsKind_0 0 rfl rfl)
theorem dX8_readsKind_1 : decode cX8_readsKind 1 = .ok (.invokevirtual 262, 3) := dk_182 1 6 (dk_at dksX8_readsKind_0 1 rfl rfl)
theorem dX8_readsKind_4 : decode cX8_readsKind 4 = .ok (.istore_n 1, 1) := dk_60 (dk_at dksX8_readsKind_0 4 rfl rfl)
theorem dX8_readsKind_5 : decode cX8_readsKind 5 = .ok (.iload_n 1, 1) := dk_27 (dk_at dksX8_readsKind_0 5 rfl rfl)
theorem dX8_readsKind_6 : decode cX8_readsKind 6 = .ok (.bipush 119, 2) := dk_16 119 (dk_at dksX8_readsKind_0 6 rfl rfl)
theorem dX8_readsKind_8 : decode cX8_readsKind 8 = .ok (.if_icmp .ne 7, 3) := dk_160 0 7 (dk_at dksX8_readsKind_0 8 rfl rfl)
theorem dX8_readsKind_11 : decode cX8_readsKind 11 = .ok (.iconst 0, 1) := dk_3 (dk_at dksX8_readsKind_0 11 rfl rfl)
theorem dX8_readsKind_12 : decode cX8_readsKind 12 = .ok (.goto 24, 3) := dk_167 0 24 (dk_at dksX8_readsKind_0 12 rfl rfl)
theorem dX8_readsKind_15 : decode cX8_readsKind 15 = .ok (.iload_n 1, 1) := dk_27 (dk_at dksX8_readsKind_0 15 rfl rfl)
theorem dX8_readsKind_16 : decode cX8_readsKind 16 = .ok (.bipush 114, 2) := dk_16 114 (dk_at dksX8_readsKind_0 16 rfl rfl)
theorem dX8_readsKind_18 : decode cX8_readsKind 18 = .ok (.if_icmp .ne 7, 3) := dk_160 0 7 (dk_at dksX8_readsKind_0 18 rfl rfl)
theorem dX8_readsKind_21 : decode cX8_readsKind 21 = .ok (.iconst 1, 1) := dk_4 (dk_at dksX8_readsKind_0 21 rfl rfl)
theorem dX8_readsKind_22 : decode cX8_readsKind 22 = .ok (.goto 14, 3) := dk_167 0 14 (dk_at dksX8_readsKind_1 0 rfl rfl)
theorem dX8_readsKind_25 : decode cX8_readsKind 25 = .ok (.iload_n 1, 1) := dk_27 (dk_at dksX8_readsKind_1 3 rfl rfl)
theorem dX8_readsKind_26 : decode cX8_readsKind 26 = .ok (.bipush 98, 2) := dk_16 98 (dk_at dksX8_readsKind_1 4 rfl rfl)
theorem dX8_readsKind_28 : decode cX8_readsKind 28 = .ok (.if_icmp .ne 7, 3) := dk_160 0 7 (dk_at dksX8_readsKind_1 6 rfl rfl)
theorem dX8_readsKind_31 : decode cX8_readsKind 31 = .ok (.iconst 2, 1) := dk_5 (dk_at dksX8_readsKind_1 9 rfl rfl)
theorem dX8_readsKind_32 : decode cX8_readsKind 32 = .ok (.goto 4, 3) := dk_167 0 4 (dk_at dksX8_readsKind_1 10 rfl rfl)
theorem dX8_readsKind_35 : decode cX8_readsKind 35 = .ok (.iconst (-1), 1) := dk_2 (dk_at dksX8_readsKind_1 13 rfl rfl)
theorem dX8_readsKind_36 : decode cX8_readsKind 36 = .ok (.istore_n 2, 1) := dk_61 (dk_at dksX8_readsKind_1 14 rfl rfl)
theorem dX8_readsKind_37 : decode cX8_readsKind 37 = .ok (.aload_n 0, 1) := dk_42 (dk_at dksX8_readsKind_1 15 rfl rfl)
theorem dX8_readsKind_38 : decode cX8_readsKind 38 = .ok (.aload_n 0, 1) := dk_42 (dk_at dksX8_readsKind_1 16 rfl rfl)
theorem dX8_readsKind_39 : decode cX8_readsKind 39 = .ok (.getfield 259, 3) := dk_180 1 3 (dk_at dksX8_readsKind_1 17 rfl rfl)
theorem dX8_readsKind_42 : decode cX8_readsKind 42 = .ok (.iconst (-1), 1) := dk_2 (dk_at dksX8_readsKind_1 20 rfl rfl)
theorem dX8_readsKind_43 : decode cX8_readsKind 43 = .ok (.if_icmp .ne 15, 3) := dk_160 0 15 (dk_at dksX8_readsKind_1 21 rfl rfl)
theorem dX8_readsKind_46 : decode cX8_readsKind 46 = .ok (.iload_n 2, 1) := dk_28 (dk_at dksX8_readsKind_2 0 rfl rfl)
theorem dX8_readsKind_47 : decode cX8_readsKind 47 = .ok (.iconst (-1), 1) := dk_2 (dk_at dksX8_readsKind_2 1 rfl rfl)
theorem dX8_readsKind_48 : decode cX8_readsKind 48 = .ok (.if_icmp .ne 10, 3) := dk_160 0 10 (dk_at dksX8_readsKind_2 2 rfl rfl)
theorem dX8_readsKind_51 : decode cX8_readsKind 51 = .ok (.aload_n 0, 1) := dk_42 (dk_at dksX8_readsKind_2 5 rfl rfl)
theorem dX8_readsKind_52 : decode cX8_readsKind 52 = .ok (.getfield 253, 3) := dk_180 0 253 (dk_at dksX8_readsKind_2 6 rfl rfl)
theorem dX8_readsKind_55 : decode cX8_readsKind 55 = .ok (.goto 7, 3) := dk_167 0 7 (dk_at dksX8_readsKind_2 9 rfl rfl)
theorem dX8_readsKind_58 : decode cX8_readsKind 58 = .ok (.aload_n 0, 1) := dk_42 (dk_at dksX8_readsKind_2 12 rfl rfl)
theorem dX8_readsKind_59 : decode cX8_readsKind 59 = .ok (.getfield 259, 3) := dk_180 1 3 (dk_at dksX8_readsKind_2 13 rfl rfl)
theorem dX8_readsKind_62 : decode cX8_readsKind 62 = .ok (.putfield 259, 3) := dk_181 1 3 (dk_at dksX8_readsKind_2 16 rfl rfl)
theorem dX8_readsKind_65 : decode cX8_readsKind 65 = .ok (.aload_n 0, 1) := dk_42 (dk_at dksX8_readsKind_2 19 rfl rfl)
theorem dX8_readsKind_66 : decode cX8_readsKind 66 = .ok (.dup, 1) := dk_89 (dk_at dksX8_readsKind_2 20 rfl rfl)
theorem dX8_readsKind_67 : decode cX8_readsKind 67 = .ok (.getfield 253, 3) := dk_180 0 253 (dk_at dksX8_readsKind_2 21 rfl rfl)
theorem dX8_readsKind_70 : decode cX8_readsKind 70 = .ok (.iload_n 2, 1) := dk_28 (dk_at dksX8_readsKind_3 0 rfl rfl)
theorem dX8_readsKind_71 : decode cX8_readsKind 71 = .ok (.iconst (-1), 1) := dk_2 (dk_at dksX8_readsKind_3 1 rfl rfl)
theorem dX8_readsKind_72 : decode cX8_readsKind 72 = .ok (.if_icmp .ne 7, 3) := dk_160 0 7 (dk_at dksX8_readsKind_3 2 rfl rfl)
theorem dX8_readsKind_75 : decode cX8_readsKind 75 = .ok (.iconst 0, 1) := dk_3 (dk_at dksX8_readsKind_3 5 rfl rfl)
theorem dX8_readsKind_76 : decode cX8_readsKind 76 = .ok (.goto 4, 3) := dk_167 0 4 (dk_at dksX8_readsKind_3 6 rfl rfl)
theorem dX8_readsKind_79 : decode cX8_readsKind 79 = .ok (.iconst 1, 1) := dk_4 (dk_at dksX8_readsKind_3 9 rfl rfl)
theorem dX8_readsKind_80 : decode cX8_readsKind 80 = .ok (.iadd, 1) := dk_96 (dk_at dksX8_readsKind_3 10 rfl rfl)
theorem dX8_readsKind_81 : decode cX8_readsKind 81 = .ok (.putfield 253, 3) := dk_181 0 253 (dk_at dksX8_readsKind_3 11 rfl rfl)
theorem dX8_readsKind_84 : decode cX8_readsKind 84 = .ok (.iload_n 2, 1) := dk_28 (dk_at dksX8_readsKind_3 14 rfl rfl)
theorem dX8_readsKind_85 : decode cX8_readsKind 85 = .ok (.ireturn, 1) := dk_172 (dk_at dksX8_readsKind_3 15 rfl rfl)
def dkwX8_does_4 : List UInt8 := [182, 0, 193, 172]
abbrev dktX8_does_4 : List UInt8 := dkwX8_does_4 ++ []
def dkwX8_does_3 : List UInt8 := [172, 42, 28, 182, 0, 223, 172, 42, 28, 29, 21, 4, 182, 0, 184, 172, 42, 28, 182, 0, 196, 172, 42, 28]
abbrev dktX8_does_3 : List UInt8 := dkwX8_does_3 ++ dktX8_does_4
def dkwX8_does_2 : List UInt8 := [42, 28, 29, 182, 0, 113, 172, 42, 28, 29, 21, 4, 182, 0, 137, 172, 42, 28, 29, 21, 4, 182, 0, 172]
abbrev dktX8_does_2 : List UInt8 := dkwX8_does_2 ++ dktX8_does_3
def dkwX8_does_1 : List UInt8 := [170, 0, 0, 0, 0, 0, 133, 0, 0, 0, 99, 0, 0, 0, 116, 0, 0, 0, 94, 0, 0, 0, 133, 0, 0, 0, 133, 0, 0, 0, 133, 0, 0, 0, 133, 0, 0, 0, 87, 0, 0, 0, 133, 0, 0, 0, 133, 0, 0, 0, 127, 0, 0, 0, 133, 0, 0, 0, 133, 0, 0, 0, 112, 0, 0, 0, 133, 0, 0, 0, 133, 0, 0, 0, 133, 0, 0, 0, 133, 0, 0, 0, 118, 0, 0, 0, 103]
abbrev dktX8_does_1 : List UInt8 := dkwX8_does_1 ++ dktX8_does_2
def dkwX8_does_0 : List UInt8 := [27]
abbrev dktX8_does_0 : List UInt8 := dkwX8_does_0 ++ dktX8_does_1
theorem dksX8_does_0 : cX8_does.data.toList.drop 0 = dktX8_does_0 := by decide +kernel
theorem dksX8_does_1 : cX8_does.data.toList.drop 1 = dktX8_does_1 := dk_seg dksX8_does_0 1 rfl rfl
theorem dksX8_does_2 : cX8_does.data.toList.drop 88 = dktX8_does_2 := dk_seg dksX8_does_1 87 rfl rfl
theorem dksX8_does_3 : cX8_does.data.toList.drop 112 = dktX8_does_3 := dk_seg dksX8_does_2 24 rfl rfl
theorem dksX8_does_4 : cX8_does.data.toList.drop 136 = dktX8_does_4 := dk_seg dksX8_does_3 24 rfl rfl
theorem dX8_does_0 : decode cX8_does 0 = .ok (.iload_n 1, 1) := dk_27 (dk_at dksX8_does_0 0 rfl rfl)
theorem dX8_does_1 : decode cX8_does 1 = .ok (.tableswitch 133 99 116 #[94, 133, 133, 133, 133, 87, 133, 133, 127, 133, 133, 112, 133, 133, 133, 133, 118, 103], 87) := by decide +kernel
theorem dX8_does_88 : decode cX8_does 88 = .ok (.aload_n 0, 1) := dk_42 (dk_at dksX8_does_2 0 rfl rfl)
theorem dX8_does_89 : decode cX8_does 89 = .ok (.iload_n 2, 1) := dk_28 (dk_at dksX8_does_2 1 rfl rfl)
theorem dX8_does_90 : decode cX8_does 90 = .ok (.iload_n 3, 1) := dk_29 (dk_at dksX8_does_2 2 rfl rfl)
theorem dX8_does_91 : decode cX8_does 91 = .ok (.invokevirtual 113, 3) := dk_182 0 113 (dk_at dksX8_does_2 3 rfl rfl)
theorem dX8_does_94 : decode cX8_does 94 = .ok (.ireturn, 1) := dk_172 (dk_at dksX8_does_2 6 rfl rfl)
theorem dX8_does_95 : decode cX8_does 95 = .ok (.aload_n 0, 1) := dk_42 (dk_at dksX8_does_2 7 rfl rfl)
theorem dX8_does_96 : decode cX8_does 96 = .ok (.iload_n 2, 1) := dk_28 (dk_at dksX8_does_2 8 rfl rfl)
theorem dX8_does_97 : decode cX8_does 97 = .ok (.iload_n 3, 1) := dk_29 (dk_at dksX8_does_2 9 rfl rfl)
theorem dX8_does_98 : decode cX8_does 98 = .ok (.iload 4, 2) := dk_21 4 (dk_at dksX8_does_2 10 rfl rfl)
theorem dX8_does_100 : decode cX8_does 100 = .ok (.invokevirtual 137, 3) := dk_182 0 137 (dk_at dksX8_does_2 12 rfl rfl)
theorem dX8_does_103 : decode cX8_does 103 = .ok (.ireturn, 1) := dk_172 (dk_at dksX8_does_2 15 rfl rfl)
theorem dX8_does_104 : decode cX8_does 104 = .ok (.aload_n 0, 1) := dk_42 (dk_at dksX8_does_2 16 rfl rfl)
theorem dX8_does_105 : decode cX8_does 105 = .ok (.iload_n 2, 1) := dk_28 (dk_at dksX8_does_2 17 rfl rfl)
theorem dX8_does_106 : decode cX8_does 106 = .ok (.iload_n 3, 1) := dk_29 (dk_at dksX8_does_2 18 rfl rfl)
theorem dX8_does_107 : decode cX8_does 107 = .ok (.iload 4, 2) := dk_21 4 (dk_at dksX8_does_2 19 rfl rfl)
theorem dX8_does_109 : decode cX8_does 109 = .ok (.invokevirtual 172, 3) := dk_182 0 172 (dk_at dksX8_does_2 21 rfl rfl)
theorem dX8_does_112 : decode cX8_does 112 = .ok (.ireturn, 1) := dk_172 (dk_at dksX8_does_3 0 rfl rfl)
theorem dX8_does_113 : decode cX8_does 113 = .ok (.aload_n 0, 1) := dk_42 (dk_at dksX8_does_3 1 rfl rfl)
theorem dX8_does_114 : decode cX8_does 114 = .ok (.iload_n 2, 1) := dk_28 (dk_at dksX8_does_3 2 rfl rfl)
theorem dX8_does_115 : decode cX8_does 115 = .ok (.invokevirtual 223, 3) := dk_182 0 223 (dk_at dksX8_does_3 3 rfl rfl)
theorem dX8_does_118 : decode cX8_does 118 = .ok (.ireturn, 1) := dk_172 (dk_at dksX8_does_3 6 rfl rfl)
theorem dX8_does_119 : decode cX8_does 119 = .ok (.aload_n 0, 1) := dk_42 (dk_at dksX8_does_3 7 rfl rfl)
theorem dX8_does_120 : decode cX8_does 120 = .ok (.iload_n 2, 1) := dk_28 (dk_at dksX8_does_3 8 rfl rfl)
theorem dX8_does_121 : decode cX8_does 121 = .ok (.iload_n 3, 1) := dk_29 (dk_at dksX8_does_3 9 rfl rfl)
theorem dX8_does_122 : decode cX8_does 122 = .ok (.iload 4, 2) := dk_21 4 (dk_at dksX8_does_3 10 rfl rfl)
theorem dX8_does_124 : decode cX8_does 124 = .ok (.invokevirtual 184, 3) := dk_182 0 184 (dk_at dksX8_does_3 12 rfl rfl)
theorem dX8_does_127 : decode cX8_does 127 = .ok (.ireturn, 1) := dk_172 (dk_at dksX8_does_3 15 rfl rfl)
theorem dX8_does_128 : decode cX8_does 128 = .ok (.aload_n 0, 1) := dk_42 (dk_at dksX8_does_3 16 rfl rfl)
theorem dX8_does_129 : decode cX8_does 129 = .ok (.iload_n 2, 1) := dk_28 (dk_at dksX8_does_3 17 rfl rfl)
theorem dX8_does_130 : decode cX8_does 130 = .ok (.invokevirtual 196, 3) := dk_182 0 196 (dk_at dksX8_does_3 18 rfl rfl)
theorem dX8_does_133 : decode cX8_does 133 = .ok (.ireturn, 1) := dk_172 (dk_at dksX8_does_3 21 rfl rfl)
theorem dX8_does_134 : decode cX8_does 134 = .ok (.aload_n 0, 1) := dk_42 (dk_at dksX8_does_3 22 rfl rfl)
theorem dX8_does_135 : decode cX8_does 135 = .ok (.iload_n 2, 1) := dk_28 (dk_at dksX8_does_3 23 rfl rfl)
theorem dX8_does_136 : decode cX8_does 136 = .ok (.invokevirtual 193, 3) := dk_182 0 193 (dk_at dksX8_does_4 0 rfl rfl)
theorem dX8_does_139 : decode cX8_does 139 = .ok (.ireturn, 1) := dk_172 (dk_at dksX8_does_4 3 rfl rfl)
def dkwX8_fault_0 : List UInt8 := [42, 180, 0, 34, 2, 160, 0, 8, 16, 252, 167, 0, 7, 42, 180, 0, 34, 172]
abbrev dktX8_fault_0 : List UInt8 := dkwX8_fault_0 ++ []
theorem dksX8_fault_0 : cX8_fault.data.toList.drop 0 = dktX8_fault_0 := by decide +kernel
theorem dX8_fault_0 : decode cX8_fault 0 = .ok (.aload_n 0, 1) := dk_42 (dk_at dksX8_fault_0 0 rfl rfl)
theorem dX8_fault_1 : decode cX8_fault 1 = .ok (.getfield 34, 3) := dk_180 0 34 (dk_at dksX8_fault_0 1 rfl rfl)
theorem dX8_fault_4 : decode cX8_fault 4 = .ok (.iconst (-1), 1) := dk_2 (dk_at dksX8_fault_0 4 rfl rfl)
theorem dX8_fault_5 : decode cX8_fault 5 = .ok (.if_icmp .ne 8, 3) := dk_160 0 8 (dk_at dksX8_fault_0 5 rfl rfl)
theorem dX8_fault_8 : decode cX8_fault 8 = .ok (.bipush (-4), 2) := dk_16 252 (dk_at dksX8_fault_0 8 rfl rfl)
theorem dX8_fault_10 : decode cX8_fault 10 = .ok (.goto 7, 3) := dk_167 0 7 (dk_at dksX8_fault_0 10 rfl rfl)
theorem dX8_fault_13 : decode cX8_fault 13 = .ok (.aload_n 0, 1) := dk_42 (dk_at dksX8_fault_0 13 rfl rfl)
theorem dX8_fault_14 : decode cX8_fault 14 = .ok (.getfield 34, 3) := dk_180 0 34 (dk_at dksX8_fault_0 14 rfl rfl)
theorem dX8_fault_17 : decode cX8_fault 17 = .ok (.ireturn, 1) := dk_172 (dk_at dksX8_fault_0 17 rfl rfl)
def dkwX8_describe_5 : List UInt8 := [181, 1, 42, 42, 180, 1, 42, 172]
abbrev dktX8_describe_5 : List UInt8 := dkwX8_describe_5 ++ []
def dkwX8_describe_4 : List UInt8 := [29, 182, 0, 156, 182, 1, 39, 61, 29, 42, 27, 29, 182, 0, 156, 96, 62, 167, 255, 171, 42, 28]
abbrev dktX8_describe_4 : List UInt8 := dkwX8_describe_4 ++ dktX8_describe_5
def dkwX8_describe_3 : List UInt8 := [167, 0, 16, 21, 4, 4, 160, 0, 8, 16, 114, 167, 0, 5, 16, 98, 182, 1, 36, 61, 42, 28, 42, 27]
abbrev dktX8_describe_3 : List UInt8 := dkwX8_describe_3 ++ dktX8_describe_4
def dkwX8_describe_2 : List UInt8 := [182, 1, 36, 42, 27, 29, 182, 0, 119, 182, 1, 39, 61, 42, 28, 21, 4, 154, 0, 8, 16, 119]
abbrev dktX8_describe_2 : List UInt8 := dkwX8_describe_2 ++ dktX8_describe_3
def dkwX8_describe_1 : List UInt8 := [29, 42, 27, 182, 0, 128, 162, 0, 82, 42, 27, 29, 182, 0, 141, 54, 4, 42, 42, 28, 16, 32]
abbrev dktX8_describe_1 : List UInt8 := dkwX8_describe_1 ++ dktX8_describe_2
def dkwX8_describe_0 : List UInt8 := [27, 184, 0, 122, 154, 0, 5, 2, 172, 42, 42, 3, 27, 182, 1, 39, 16, 58, 182, 1, 36, 61, 3, 62]
abbrev dktX8_describe_0 : List UInt8 := dkwX8_describe_0 ++ dktX8_describe_1
theorem dksX8_describe_0 : cX8_describe.data.toList.drop 0 = dktX8_describe_0 := by decide +kernel
theorem dksX8_describe_1 : cX8_describe.data.toList.drop 24 = dktX8_describe_1 := dk_seg dksX8_describe_0 24 rfl rfl
theorem dksX8_describe_2 : cX8_describe.data.toList.drop 46 = dktX8_describe_2 := dk_seg dksX8_describe_1 22 rfl rfl
theorem dksX8_describe_3 : cX8_describe.data.toList.drop 68 = dktX8_describe_3 := dk_seg dksX8_describe_2 22 rfl rfl
theorem dksX8_describe_4 : cX8_describe.data.toList.drop 92 = dktX8_describe_4 := dk_seg dksX8_describe_3 24 rfl rfl
theorem dksX8_describe_5 : cX8_describe.data.toList.drop 114 = dktX8_describe_5 := dk_seg dksX8_describe_4 22 rfl rfl
theorem dX8_describe_0 : decode cX8_describe 0 = .ok (.iload_n 1, 1) := dk_27 (dk_at dksX8_describe_0 0 rfl rfl)
theorem dX8_describe_1 : decode cX8_describe 1 = .ok (.invokestatic 122, 3) := dk_184 0 122 (dk_at dksX8_describe_0 1 rfl rfl)
theorem dX8_describe_4 : decode cX8_describe 4 = .ok (.ifCond .ne 5, 3) := dk_154 0 5 (dk_at dksX8_describe_0 4 rfl rfl)
theorem dX8_describe_7 : decode cX8_describe 7 = .ok (.iconst (-1), 1) := dk_2 (dk_at dksX8_describe_0 7 rfl rfl)
theorem dX8_describe_8 : decode cX8_describe 8 = .ok (.ireturn, 1) := dk_172 (dk_at dksX8_describe_0 8 rfl rfl)
theorem dX8_describe_9 : decode cX8_describe 9 = .ok (.aload_n 0, 1) := dk_42 (dk_at dksX8_describe_0 9 rfl rfl)
theorem dX8_describe_10 : decode cX8_describe 10 = .ok (.aload_n 0, 1) := dk_42 (dk_at dksX8_describe_0 10 rfl rfl)
theorem dX8_describe_11 : decode cX8_describe 11 = .ok (.iconst 0, 1) := dk_3 (dk_at dksX8_describe_0 11 rfl rfl)
theorem dX8_describe_12 : decode cX8_describe 12 = .ok (.iload_n 1, 1) := dk_27 (dk_at dksX8_describe_0 12 rfl rfl)
theorem dX8_describe_13 : decode cX8_describe 13 = .ok (.invokevirtual 295, 3) := dk_182 1 39 (dk_at dksX8_describe_0 13 rfl rfl)
theorem dX8_describe_16 : decode cX8_describe 16 = .ok (.bipush 58, 2) := dk_16 58 (dk_at dksX8_describe_0 16 rfl rfl)
theorem dX8_describe_18 : decode cX8_describe 18 = .ok (.invokevirtual 292, 3) := dk_182 1 36 (dk_at dksX8_describe_0 18 rfl rfl)
theorem dX8_describe_21 : decode cX8_describe 21 = .ok (.istore_n 2, 1) := dk_61 (dk_at dksX8_describe_0 21 rfl rfl)
theorem dX8_describe_22 : decode cX8_describe 22 = .ok (.iconst 0, 1) := dk_3 (dk_at dksX8_describe_0 22 rfl rfl)
theorem dX8_describe_23 : decode cX8_describe 23 = .ok (.istore_n 3, 1) := dk_62 (dk_at dksX8_describe_0 23 rfl rfl)
theorem dX8_describe_24 : decode cX8_describe 24 = .ok (.iload_n 3, 1) := dk_29 (dk_at dksX8_describe_1 0 rfl rfl)
theorem dX8_describe_25 : decode cX8_describe 25 = .ok (.aload_n 0, 1) := dk_42 (dk_at dksX8_describe_1 1 rfl rfl)
theorem dX8_describe_26 : decode cX8_describe 26 = .ok (.iload_n 1, 1) := dk_27 (dk_at dksX8_describe_1 2 rfl rfl)
theorem dX8_describe_27 : decode cX8_describe 27 = .ok (.invokevirtual 128, 3) := dk_182 0 128 (dk_at dksX8_describe_1 3 rfl rfl)
theorem dX8_describe_30 : decode cX8_describe 30 = .ok (.if_icmp .ge 82, 3) := dk_162 0 82 (dk_at dksX8_describe_1 6 rfl rfl)
theorem dX8_describe_33 : decode cX8_describe 33 = .ok (.aload_n 0, 1) := dk_42 (dk_at dksX8_describe_1 9 rfl rfl)
theorem dX8_describe_34 : decode cX8_describe 34 = .ok (.iload_n 1, 1) := dk_27 (dk_at dksX8_describe_1 10 rfl rfl)
theorem dX8_describe_35 : decode cX8_describe 35 = .ok (.iload_n 3, 1) := dk_29 (dk_at dksX8_describe_1 11 rfl rfl)
theorem dX8_describe_36 : decode cX8_describe 36 = .ok (.invokevirtual 141, 3) := dk_182 0 141 (dk_at dksX8_describe_1 12 rfl rfl)
theorem dX8_describe_39 : decode cX8_describe 39 = .ok (.istore 4, 2) := dk_54 4 (dk_at dksX8_describe_1 15 rfl rfl)
theorem dX8_describe_41 : decode cX8_describe 41 = .ok (.aload_n 0, 1) := dk_42 (dk_at dksX8_describe_1 17 rfl rfl)
theorem dX8_describe_42 : decode cX8_describe 42 = .ok (.aload_n 0, 1) := dk_42 (dk_at dksX8_describe_1 18 rfl rfl)
theorem dX8_describe_43 : decode cX8_describe 43 = .ok (.iload_n 2, 1) := dk_28 (dk_at dksX8_describe_1 19 rfl rfl)
theorem dX8_describe_44 : decode cX8_describe 44 = .ok (.bipush 32, 2) := dk_16 32 (dk_at dksX8_describe_1 20 rfl rfl)
theorem dX8_describe_46 : decode cX8_describe 46 = .ok (.invokevirtual 292, 3) := dk_182 1 36 (dk_at dksX8_describe_2 0 rfl rfl)
theorem dX8_describe_49 : decode cX8_describe 49 = .ok (.aload_n 0, 1) := dk_42 (dk_at dksX8_describe_2 3 rfl rfl)
theorem dX8_describe_50 : decode cX8_describe 50 = .ok (.iload_n 1, 1) := dk_27 (dk_at dksX8_describe_2 4 rfl rfl)
theorem dX8_describe_51 : decode cX8_describe 51 = .ok (.iload_n 3, 1) := dk_29 (dk_at dksX8_describe_2 5 rfl rfl)
theorem dX8_describe_52 : decode cX8_describe 52 = .ok (.invokevirtual 119, 3) := dk_182 0 119 (dk_at dksX8_describe_2 6 rfl rfl)
theorem dX8_describe_55 : decode cX8_describe 55 = .ok (.invokevirtual 295, 3) := dk_182 1 39 (dk_at dksX8_describe_2 9 rfl rfl)
theorem dX8_describe_58 : decode cX8_describe 58 = .ok (.istore_n 2, 1) := dk_61 (dk_at dksX8_describe_2 12 rfl rfl)
theorem dX8_describe_59 : decode cX8_describe 59 = .ok (.aload_n 0, 1) := dk_42 (dk_at dksX8_describe_2 13 rfl rfl)
theorem dX8_describe_60 : decode cX8_describe 60 = .ok (.iload_n 2, 1) := dk_28 (dk_at dksX8_describe_2 14 rfl rfl)
theorem dX8_describe_61 : decode cX8_describe 61 = .ok (.iload 4, 2) := dk_21 4 (dk_at dksX8_describe_2 15 rfl rfl)
theorem dX8_describe_63 : decode cX8_describe 63 = .ok (.ifCond .ne 8, 3) := dk_154 0 8 (dk_at dksX8_describe_2 17 rfl rfl)
theorem dX8_describe_66 : decode cX8_describe 66 = .ok (.bipush 119, 2) := dk_16 119 (dk_at dksX8_describe_2 20 rfl rfl)
theorem dX8_describe_68 : decode cX8_describe 68 = .ok (.goto 16, 3) := dk_167 0 16 (dk_at dksX8_describe_3 0 rfl rfl)
theorem dX8_describe_71 : decode cX8_describe 71 = .ok (.iload 4, 2) := dk_21 4 (dk_at dksX8_describe_3 3 rfl rfl)
theorem dX8_describe_73 : decode cX8_describe 73 = .ok (.iconst 1, 1) := dk_4 (dk_at dksX8_describe_3 5 rfl rfl)
theorem dX8_describe_74 : decode cX8_describe 74 = .ok (.if_icmp .ne 8, 3) := dk_160 0 8 (dk_at dksX8_describe_3 6 rfl rfl)
theorem dX8_describe_77 : decode cX8_describe 77 = .ok (.bipush 114, 2) := dk_16 114 (dk_at dksX8_describe_3 9 rfl rfl)
theorem dX8_describe_79 : decode cX8_describe 79 = .ok (.goto 5, 3) := dk_167 0 5 (dk_at dksX8_describe_3 11 rfl rfl)
theorem dX8_describe_82 : decode cX8_describe 82 = .ok (.bipush 98, 2) := dk_16 98 (dk_at dksX8_describe_3 14 rfl rfl)
theorem dX8_describe_84 : decode cX8_describe 84 = .ok (.invokevirtual 292, 3) := dk_182 1 36 (dk_at dksX8_describe_3 16 rfl rfl)
theorem dX8_describe_87 : decode cX8_describe 87 = .ok (.istore_n 2, 1) := dk_61 (dk_at dksX8_describe_3 19 rfl rfl)
theorem dX8_describe_88 : decode cX8_describe 88 = .ok (.aload_n 0, 1) := dk_42 (dk_at dksX8_describe_3 20 rfl rfl)
theorem dX8_describe_89 : decode cX8_describe 89 = .ok (.iload_n 2, 1) := dk_28 (dk_at dksX8_describe_3 21 rfl rfl)
theorem dX8_describe_90 : decode cX8_describe 90 = .ok (.aload_n 0, 1) := dk_42 (dk_at dksX8_describe_3 22 rfl rfl)
theorem dX8_describe_91 : decode cX8_describe 91 = .ok (.iload_n 1, 1) := dk_27 (dk_at dksX8_describe_3 23 rfl rfl)
theorem dX8_describe_92 : decode cX8_describe 92 = .ok (.iload_n 3, 1) := dk_29 (dk_at dksX8_describe_4 0 rfl rfl)
theorem dX8_describe_93 : decode cX8_describe 93 = .ok (.invokevirtual 156, 3) := dk_182 0 156 (dk_at dksX8_describe_4 1 rfl rfl)
theorem dX8_describe_96 : decode cX8_describe 96 = .ok (.invokevirtual 295, 3) := dk_182 1 39 (dk_at dksX8_describe_4 4 rfl rfl)
theorem dX8_describe_99 : decode cX8_describe 99 = .ok (.istore_n 2, 1) := dk_61 (dk_at dksX8_describe_4 7 rfl rfl)
theorem dX8_describe_100 : decode cX8_describe 100 = .ok (.iload_n 3, 1) := dk_29 (dk_at dksX8_describe_4 8 rfl rfl)
theorem dX8_describe_101 : decode cX8_describe 101 = .ok (.aload_n 0, 1) := dk_42 (dk_at dksX8_describe_4 9 rfl rfl)
theorem dX8_describe_102 : decode cX8_describe 102 = .ok (.iload_n 1, 1) := dk_27 (dk_at dksX8_describe_4 10 rfl rfl)
theorem dX8_describe_103 : decode cX8_describe 103 = .ok (.iload_n 3, 1) := dk_29 (dk_at dksX8_describe_4 11 rfl rfl)
theorem dX8_describe_104 : decode cX8_describe 104 = .ok (.invokevirtual 156, 3) := dk_182 0 156 (dk_at dksX8_describe_4 12 rfl rfl)
theorem dX8_describe_107 : decode cX8_describe 107 = .ok (.iadd, 1) := dk_96 (dk_at dksX8_describe_4 15 rfl rfl)
theorem dX8_describe_108 : decode cX8_describe 108 = .ok (.istore_n 3, 1) := dk_62 (dk_at dksX8_describe_4 16 rfl rfl)
theorem dX8_describe_109 : decode cX8_describe 109 = .ok (.goto (-85), 3) := dk_167 255 171 (dk_at dksX8_describe_4 17 rfl rfl)
theorem dX8_describe_112 : decode cX8_describe 112 = .ok (.aload_n 0, 1) := dk_42 (dk_at dksX8_describe_4 20 rfl rfl)
theorem dX8_describe_113 : decode cX8_describe 113 = .ok (.iload_n 2, 1) := dk_28 (dk_at dksX8_describe_4 21 rfl rfl)
theorem dX8_describe_114 : decode cX8_describe 114 = .ok (.putfield 298, 3) := dk_181 1 42 (dk_at dksX8_describe_5 0 rfl rfl)
theorem dX8_describe_117 : decode cX8_describe 117 = .ok (.aload_n 0, 1) := dk_42 (dk_at dksX8_describe_5 3 rfl rfl)
theorem dX8_describe_118 : decode cX8_describe 118 = .ok (.getfield 298, 3) := dk_180 1 42 (dk_at dksX8_describe_5 4 rfl rfl)
theorem dX8_describe_121 : decode cX8_describe 121 = .ok (.ireturn, 1) := dk_172 (dk_at dksX8_describe_5 7 rfl rfl)
def dkwX8_writes_2 : List UInt8 := [16, 10, 108, 54, 4, 167, 255, 228, 29, 172]
abbrev dktX8_writes_2 : List UInt8 := dkwX8_writes_2 ++ []
def dkwX8_writes_1 : List UInt8 := [21, 4, 158, 0, 29, 42, 29, 16, 48, 28, 21, 4, 108, 16, 10, 112, 96, 182, 1, 36, 62, 21, 4]
abbrev dktX8_writes_1 : List UInt8 := dkwX8_writes_1 ++ dktX8_writes_2
def dkwX8_writes_0 : List UInt8 := [27, 62, 4, 54, 4, 28, 21, 4, 108, 16, 10, 161, 0, 13, 21, 4, 16, 10, 104, 54, 4, 167, 255, 240]
abbrev dktX8_writes_0 : List UInt8 := dkwX8_writes_0 ++ dktX8_writes_1
theorem dksX8_writes_0 : cX8_writes.data.toList.drop 0 = dktX8_writes_0 := by decide +kernel
theorem dksX8_writes_1 : cX8_writes.data.toList.drop 24 = dktX8_writes_1 := dk_seg dksX8_writes_0 24 rfl rfl
theorem dksX8_writes_2 : cX8_writes.data.toList.drop 47 = dktX8_writes_2 := dk_seg dksX8_writes_1 23 rfl rfl
theorem dX8_writes_0 : decode cX8_writes 0 = .ok (.iload_n 1, 1) := dk_27 (dk_at dksX8_writes_0 0 rfl rfl)
theorem dX8_writes_1 : decode cX8_writes 1 = .ok (.istore_n 3, 1) := dk_62 (dk_at dksX8_writes_0 1 rfl rfl)
theorem dX8_writes_2 : decode cX8_writes 2 = .ok (.iconst 1, 1) := dk_4 (dk_at dksX8_writes_0 2 rfl rfl)
theorem dX8_writes_3 : decode cX8_writes 3 = .ok (.istore 4, 2) := dk_54 4 (dk_at dksX8_writes_0 3 rfl rfl)
theorem dX8_writes_5 : decode cX8_writes 5 = .ok (.iload_n 2, 1) := dk_28 (dk_at dksX8_writes_0 5 rfl rfl)
theorem dX8_writes_6 : decode cX8_writes 6 = .ok (.iload 4, 2) := dk_21 4 (dk_at dksX8_writes_0 6 rfl rfl)
theorem dX8_writes_8 : decode cX8_writes 8 = .ok (.idiv, 1) := dk_108 (dk_at dksX8_writes_0 8 rfl rfl)
theorem dX8_writes_9 : decode cX8_writes 9 = .ok (.bipush 10, 2) := dk_16 10 (dk_at dksX8_writes_0 9 rfl rfl)
theorem dX8_writes_11 : decode cX8_writes 11 = .ok (.if_icmp .lt 13, 3) := dk_161 0 13 (dk_at dksX8_writes_0 11 rfl rfl)
theorem dX8_writes_14 : decode cX8_writes 14 = .ok (.iload 4, 2) := dk_21 4 (dk_at dksX8_writes_0 14 rfl rfl)
theorem dX8_writes_16 : decode cX8_writes 16 = .ok (.bipush 10, 2) := dk_16 10 (dk_at dksX8_writes_0 16 rfl rfl)
theorem dX8_writes_18 : decode cX8_writes 18 = .ok (.imul, 1) := dk_104 (dk_at dksX8_writes_0 18 rfl rfl)
theorem dX8_writes_19 : decode cX8_writes 19 = .ok (.istore 4, 2) := dk_54 4 (dk_at dksX8_writes_0 19 rfl rfl)
theorem dX8_writes_21 : decode cX8_writes 21 = .ok (.goto (-16), 3) := dk_167 255 240 (dk_at dksX8_writes_0 21 rfl rfl)
theorem dX8_writes_24 : decode cX8_writes 24 = .ok (.iload 4, 2) := dk_21 4 (dk_at dksX8_writes_1 0 rfl rfl)
theorem dX8_writes_26 : decode cX8_writes 26 = .ok (.ifCond .le 29, 3) := dk_158 0 29 (dk_at dksX8_writes_1 2 rfl rfl)
theorem dX8_writes_29 : decode cX8_writes 29 = .ok (.aload_n 0, 1) := dk_42 (dk_at dksX8_writes_1 5 rfl rfl)
theorem dX8_writes_30 : decode cX8_writes 30 = .ok (.iload_n 3, 1) := dk_29 (dk_at dksX8_writes_1 6 rfl rfl)
theorem dX8_writes_31 : decode cX8_writes 31 = .ok (.bipush 48, 2) := dk_16 48 (dk_at dksX8_writes_1 7 rfl rfl)
theorem dX8_writes_33 : decode cX8_writes 33 = .ok (.iload_n 2, 1) := dk_28 (dk_at dksX8_writes_1 9 rfl rfl)
theorem dX8_writes_34 : decode cX8_writes 34 = .ok (.iload 4, 2) := dk_21 4 (dk_at dksX8_writes_1 10 rfl rfl)
theorem dX8_writes_36 : decode cX8_writes 36 = .ok (.idiv, 1) := dk_108 (dk_at dksX8_writes_1 12 rfl rfl)
theorem dX8_writes_37 : decode cX8_writes 37 = .ok (.bipush 10, 2) := dk_16 10 (dk_at dksX8_writes_1 13 rfl rfl)
theorem dX8_writes_39 : decode cX8_writes 39 = .ok (.irem, 1) := dk_112 (dk_at dksX8_writes_1 15 rfl rfl)
theorem dX8_writes_40 : decode cX8_writes 40 = .ok (.iadd, 1) := dk_96 (dk_at dksX8_writes_1 16 rfl rfl)
theorem dX8_writes_41 : decode cX8_writes 41 = .ok (.invokevirtual 292, 3) := dk_182 1 36 (dk_at dksX8_writes_1 17 rfl rfl)
theorem dX8_writes_44 : decode cX8_writes 44 = .ok (.istore_n 3, 1) := dk_62 (dk_at dksX8_writes_1 20 rfl rfl)
theorem dX8_writes_45 : decode cX8_writes 45 = .ok (.iload 4, 2) := dk_21 4 (dk_at dksX8_writes_1 21 rfl rfl)
theorem dX8_writes_47 : decode cX8_writes 47 = .ok (.bipush 10, 2) := dk_16 10 (dk_at dksX8_writes_2 0 rfl rfl)
theorem dX8_writes_49 : decode cX8_writes 49 = .ok (.idiv, 1) := dk_108 (dk_at dksX8_writes_2 2 rfl rfl)
theorem dX8_writes_50 : decode cX8_writes 50 = .ok (.istore 4, 2) := dk_54 4 (dk_at dksX8_writes_2 3 rfl rfl)
theorem dX8_writes_52 : decode cX8_writes 52 = .ok (.goto (-28), 3) := dk_167 255 228 (dk_at dksX8_writes_2 5 rfl rfl)
theorem dX8_writes_55 : decode cX8_writes 55 = .ok (.iload_n 3, 1) := dk_29 (dk_at dksX8_writes_2 8 rfl rfl)
theorem dX8_writes_56 : decode cX8_writes 56 = .ok (.ireturn, 1) := dk_172 (dk_at dksX8_writes_2 9 rfl rfl)
def dkwX8_put_0 : List UInt8 := [42, 180, 0, 38, 27, 28, 79, 27, 4, 96, 172]
abbrev dktX8_put_0 : List UInt8 := dkwX8_put_0 ++ []
theorem dksX8_put_0 : cX8_put.data.toList.drop 0 = dktX8_put_0 := by decide +kernel
theorem dX8_put_0 : decode cX8_put 0 = .ok (.aload_n 0, 1) := dk_42 (dk_at dksX8_put_0 0 rfl rfl)
theorem dX8_put_1 : decode cX8_put 1 = .ok (.getfield 38, 3) := dk_180 0 38 (dk_at dksX8_put_0 1 rfl rfl)
theorem dX8_put_4 : decode cX8_put 4 = .ok (.iload_n 1, 1) := dk_27 (dk_at dksX8_put_0 4 rfl rfl)
theorem dX8_put_5 : decode cX8_put 5 = .ok (.iload_n 2, 1) := dk_28 (dk_at dksX8_put_0 5 rfl rfl)
theorem dX8_put_6 : decode cX8_put 6 = .ok (.iastore, 1) := dk_79 (dk_at dksX8_put_0 6 rfl rfl)
theorem dX8_put_7 : decode cX8_put 7 = .ok (.iload_n 1, 1) := dk_27 (dk_at dksX8_put_0 7 rfl rfl)
theorem dX8_put_8 : decode cX8_put 8 = .ok (.iconst 1, 1) := dk_4 (dk_at dksX8_put_0 8 rfl rfl)
theorem dX8_put_9 : decode cX8_put 9 = .ok (.iadd, 1) := dk_96 (dk_at dksX8_put_0 9 rfl rfl)
theorem dX8_put_10 : decode cX8_put 10 = .ok (.ireturn, 1) := dk_172 (dk_at dksX8_put_0 10 rfl rfl)
def dkwX8_written_1 : List UInt8 := [172]
abbrev dktX8_written_1 : List UInt8 := dkwX8_written_1 ++ []
def dkwX8_written_0 : List UInt8 := [27, 3, 42, 180, 1, 42, 4, 100, 184, 0, 56, 153, 0, 12, 42, 180, 0, 38, 27, 46, 167, 0, 4, 2]
abbrev dktX8_written_0 : List UInt8 := dkwX8_written_0 ++ dktX8_written_1
theorem dksX8_written_0 : cX8_written.data.toList.drop 0 = dktX8_written_0 := by decide +kernel
theorem dksX8_written_1 : cX8_written.data.toList.drop 24 = dktX8_written_1 := dk_seg dksX8_written_0 24 rfl rfl
theorem dX8_written_0 : decode cX8_written 0 = .ok (.iload_n 1, 1) := dk_27 (dk_at dksX8_written_0 0 rfl rfl)
theorem dX8_written_1 : decode cX8_written 1 = .ok (.iconst 0, 1) := dk_3 (dk_at dksX8_written_0 1 rfl rfl)
theorem dX8_written_2 : decode cX8_written 2 = .ok (.aload_n 0, 1) := dk_42 (dk_at dksX8_written_0 2 rfl rfl)
theorem dX8_written_3 : decode cX8_written 3 = .ok (.getfield 298, 3) := dk_180 1 42 (dk_at dksX8_written_0 3 rfl rfl)
theorem dX8_written_6 : decode cX8_written 6 = .ok (.iconst 1, 1) := dk_4 (dk_at dksX8_written_0 6 rfl rfl)
theorem dX8_written_7 : decode cX8_written 7 = .ok (.isub, 1) := dk_100 (dk_at dksX8_written_0 7 rfl rfl)
theorem dX8_written_8 : decode cX8_written 8 = .ok (.invokestatic 56, 3) := dk_184 0 56 (dk_at dksX8_written_0 8 rfl rfl)
theorem dX8_written_11 : decode cX8_written 11 = .ok (.ifCond .eq 12, 3) := dk_153 0 12 (dk_at dksX8_written_0 11 rfl rfl)
theorem dX8_written_14 : decode cX8_written 14 = .ok (.aload_n 0, 1) := dk_42 (dk_at dksX8_written_0 14 rfl rfl)
theorem dX8_written_15 : decode cX8_written 15 = .ok (.getfield 38, 3) := dk_180 0 38 (dk_at dksX8_written_0 15 rfl rfl)
theorem dX8_written_18 : decode cX8_written 18 = .ok (.iload_n 1, 1) := dk_27 (dk_at dksX8_written_0 18 rfl rfl)
theorem dX8_written_19 : decode cX8_written 19 = .ok (.iaload, 1) := dk_46 (dk_at dksX8_written_0 19 rfl rfl)
theorem dX8_written_20 : decode cX8_written 20 = .ok (.goto 4, 3) := dk_167 0 4 (dk_at dksX8_written_0 20 rfl rfl)
theorem dX8_written_23 : decode cX8_written 23 = .ok (.iconst (-1), 1) := dk_2 (dk_at dksX8_written_0 23 rfl rfl)
theorem dX8_written_24 : decode cX8_written 24 = .ok (.ireturn, 1) := dk_172 (dk_at dksX8_written_1 0 rfl rfl)
def dkwX8_account_5 : List UInt8 := [46, 4, 96, 172, 42, 182, 1, 51, 172, 42, 180, 0, 60, 172, 42, 180, 0, 53, 172, 16, 254, 172]
abbrev dktX8_account_5 : List UInt8 := dkwX8_account_5 ++ []
def dkwX8_account_4 : List UInt8 := [6, 182, 0, 242, 172, 42, 4, 182, 0, 248, 172, 42, 3, 182, 0, 248, 172, 42, 180, 0, 9, 17, 1, 171]
abbrev dktX8_account_4 : List UInt8 := dkwX8_account_4 ++ dktX8_account_5
def dkwX8_account_3 : List UInt8 := [172, 42, 7, 182, 0, 245, 172, 42, 5, 182, 0, 245, 172, 42, 182, 1, 45, 172, 42, 182, 1, 48, 172, 42]
abbrev dktX8_account_3 : List UInt8 := dkwX8_account_3 ++ dktX8_account_4
def dkwX8_account_2 : List UInt8 := [42, 180, 0, 9, 3, 46, 172, 42, 180, 0, 9, 17, 1, 172, 46, 172, 42, 180, 0, 9, 17, 1, 173, 46]
abbrev dktX8_account_2 : List UInt8 := dkwX8_account_2 ++ dktX8_account_3
def dkwX8_account_1 : List UInt8 := [170, 0, 0, 0, 0, 0, 162, 0, 0, 0, 0, 0, 0, 0, 13, 0, 0, 0, 71, 0, 0, 0, 78, 0, 0, 0, 87, 0, 0, 0, 96, 0, 0, 0, 102, 0, 0, 0, 108, 0, 0, 0, 113, 0, 0, 0, 118, 0, 0, 0, 124, 0, 0, 0, 130, 0, 0, 0, 136, 0, 0, 0, 147, 0, 0, 0, 152, 0, 0, 0, 157]
abbrev dktX8_account_1 : List UInt8 := dkwX8_account_1 ++ dktX8_account_2
def dkwX8_account_0 : List UInt8 := [27]
abbrev dktX8_account_0 : List UInt8 := dkwX8_account_0 ++ dktX8_account_1
theorem dksX8_account_0 : cX8_account.data.toList.drop 0 = dktX8_account_0 := by decide +kernel
theorem dksX8_account_1 : cX8_account.data.toList.drop 1 = dktX8_account_1 := dk_seg dksX8_account_0 1 rfl rfl
theorem dksX8_account_2 : cX8_account.data.toList.drop 72 = dktX8_account_2 := dk_seg dksX8_account_1 71 rfl rfl
theorem dksX8_account_3 : cX8_account.data.toList.drop 96 = dktX8_account_3 := dk_seg dksX8_account_2 24 rfl rfl
theorem dksX8_account_4 : cX8_account.data.toList.drop 120 = dktX8_account_4 := dk_seg dksX8_account_3 24 rfl rfl
theorem dksX8_account_5 : cX8_account.data.toList.drop 144 = dktX8_account_5 := dk_seg dksX8_account_4 24 rfl rfl
theorem dX8_account_0 : decode cX8_account 0 = .ok (.iload_n 1, 1) := dk_27 (dk_at dksX8_account_0 0 rfl rfl)
theorem dX8_account_1 : decode cX8_account 1 = .ok (.tableswitch 162 0 13 #[71, 78, 87, 96, 102, 108, 113, 118, 124, 130, 136, 147, 152, 157], 71) := by decide +kernel
theorem dX8_account_72 : decode cX8_account 72 = .ok (.aload_n 0, 1) := dk_42 (dk_at dksX8_account_2 0 rfl rfl)
theorem dX8_account_73 : decode cX8_account 73 = .ok (.getfield 9, 3) := dk_180 0 9 (dk_at dksX8_account_2 1 rfl rfl)
theorem dX8_account_76 : decode cX8_account 76 = .ok (.iconst 0, 1) := dk_3 (dk_at dksX8_account_2 4 rfl rfl)
theorem dX8_account_77 : decode cX8_account 77 = .ok (.iaload, 1) := dk_46 (dk_at dksX8_account_2 5 rfl rfl)
theorem dX8_account_78 : decode cX8_account 78 = .ok (.ireturn, 1) := dk_172 (dk_at dksX8_account_2 6 rfl rfl)
theorem dX8_account_79 : decode cX8_account 79 = .ok (.aload_n 0, 1) := dk_42 (dk_at dksX8_account_2 7 rfl rfl)
theorem dX8_account_80 : decode cX8_account 80 = .ok (.getfield 9, 3) := dk_180 0 9 (dk_at dksX8_account_2 8 rfl rfl)
theorem dX8_account_83 : decode cX8_account 83 = .ok (.sipush 428, 3) := dk_17 1 172 (dk_at dksX8_account_2 11 rfl rfl)
theorem dX8_account_86 : decode cX8_account 86 = .ok (.iaload, 1) := dk_46 (dk_at dksX8_account_2 14 rfl rfl)
theorem dX8_account_87 : decode cX8_account 87 = .ok (.ireturn, 1) := dk_172 (dk_at dksX8_account_2 15 rfl rfl)
theorem dX8_account_88 : decode cX8_account 88 = .ok (.aload_n 0, 1) := dk_42 (dk_at dksX8_account_2 16 rfl rfl)
theorem dX8_account_89 : decode cX8_account 89 = .ok (.getfield 9, 3) := dk_180 0 9 (dk_at dksX8_account_2 17 rfl rfl)
theorem dX8_account_92 : decode cX8_account 92 = .ok (.sipush 429, 3) := dk_17 1 173 (dk_at dksX8_account_2 20 rfl rfl)
theorem dX8_account_95 : decode cX8_account 95 = .ok (.iaload, 1) := dk_46 (dk_at dksX8_account_2 23 rfl rfl)
theorem dX8_account_96 : decode cX8_account 96 = .ok (.ireturn, 1) := dk_172 (dk_at dksX8_account_3 0 rfl rfl)
theorem dX8_account_97 : decode cX8_account 97 = .ok (.aload_n 0, 1) := dk_42 (dk_at dksX8_account_3 1 rfl rfl)
theorem dX8_account_98 : decode cX8_account 98 = .ok (.iconst 4, 1) := dk_7 (dk_at dksX8_account_3 2 rfl rfl)
theorem dX8_account_99 : decode cX8_account 99 = .ok (.invokevirtual 245, 3) := dk_182 0 245 (dk_at dksX8_account_3 3 rfl rfl)
theorem dX8_account_102 : decode cX8_account 102 = .ok (.ireturn, 1) := dk_172 (dk_at dksX8_account_3 6 rfl rfl)
theorem dX8_account_103 : decode cX8_account 103 = .ok (.aload_n 0, 1) := dk_42 (dk_at dksX8_account_3 7 rfl rfl)
theorem dX8_account_104 : decode cX8_account 104 = .ok (.iconst 2, 1) := dk_5 (dk_at dksX8_account_3 8 rfl rfl)
theorem dX8_account_105 : decode cX8_account 105 = .ok (.invokevirtual 245, 3) := dk_182 0 245 (dk_at dksX8_account_3 9 rfl rfl)
theorem dX8_account_108 : decode cX8_account 108 = .ok (.ireturn, 1) := dk_172 (dk_at dksX8_account_3 12 rfl rfl)
theorem dX8_account_109 : decode cX8_account 109 = .ok (.aload_n 0, 1) := dk_42 (dk_at dksX8_account_3 13 rfl rfl)
theorem dX8_account_110 : decode cX8_account 110 = .ok (.invokevirtual 301, 3) := dk_182 1 45 (dk_at dksX8_account_3 14 rfl rfl)
theorem dX8_account_113 : decode cX8_account 113 = .ok (.ireturn, 1) := dk_172 (dk_at dksX8_account_3 17 rfl rfl)
theorem dX8_account_114 : decode cX8_account 114 = .ok (.aload_n 0, 1) := dk_42 (dk_at dksX8_account_3 18 rfl rfl)
theorem dX8_account_115 : decode cX8_account 115 = .ok (.invokevirtual 304, 3) := dk_182 1 48 (dk_at dksX8_account_3 19 rfl rfl)
theorem dX8_account_118 : decode cX8_account 118 = .ok (.ireturn, 1) := dk_172 (dk_at dksX8_account_3 22 rfl rfl)
theorem dX8_account_119 : decode cX8_account 119 = .ok (.aload_n 0, 1) := dk_42 (dk_at dksX8_account_3 23 rfl rfl)
theorem dX8_account_120 : decode cX8_account 120 = .ok (.iconst 3, 1) := dk_6 (dk_at dksX8_account_4 0 rfl rfl)
theorem dX8_account_121 : decode cX8_account 121 = .ok (.invokevirtual 242, 3) := dk_182 0 242 (dk_at dksX8_account_4 1 rfl rfl)
theorem dX8_account_124 : decode cX8_account 124 = .ok (.ireturn, 1) := dk_172 (dk_at dksX8_account_4 4 rfl rfl)
theorem dX8_account_125 : decode cX8_account 125 = .ok (.aload_n 0, 1) := dk_42 (dk_at dksX8_account_4 5 rfl rfl)
theorem dX8_account_126 : decode cX8_account 126 = .ok (.iconst 1, 1) := dk_4 (dk_at dksX8_account_4 6 rfl rfl)
theorem dX8_account_127 : decode cX8_account 127 = .ok (.invokevirtual 248, 3) := dk_182 0 248 (dk_at dksX8_account_4 7 rfl rfl)
theorem dX8_account_130 : decode cX8_account 130 = .ok (.ireturn, 1) := dk_172 (dk_at dksX8_account_4 10 rfl rfl)
theorem dX8_account_131 : decode cX8_account 131 = .ok (.aload_n 0, 1) := dk_42 (dk_at dksX8_account_4 11 rfl rfl)
theorem dX8_account_132 : decode cX8_account 132 = .ok (.iconst 0, 1) := dk_3 (dk_at dksX8_account_4 12 rfl rfl)
theorem dX8_account_133 : decode cX8_account 133 = .ok (.invokevirtual 248, 3) := dk_182 0 248 (dk_at dksX8_account_4 13 rfl rfl)
theorem dX8_account_136 : decode cX8_account 136 = .ok (.ireturn, 1) := dk_172 (dk_at dksX8_account_4 16 rfl rfl)
theorem dX8_account_137 : decode cX8_account 137 = .ok (.aload_n 0, 1) := dk_42 (dk_at dksX8_account_4 17 rfl rfl)
theorem dX8_account_138 : decode cX8_account 138 = .ok (.getfield 9, 3) := dk_180 0 9 (dk_at dksX8_account_4 18 rfl rfl)
theorem dX8_account_141 : decode cX8_account 141 = .ok (.sipush 427, 3) := dk_17 1 171 (dk_at dksX8_account_4 21 rfl rfl)
theorem dX8_account_144 : decode cX8_account 144 = .ok (.iaload, 1) := dk_46 (dk_at dksX8_account_5 0 rfl rfl)
theorem dX8_account_145 : decode cX8_account 145 = .ok (.iconst 1, 1) := dk_4 (dk_at dksX8_account_5 1 rfl rfl)
theorem dX8_account_146 : decode cX8_account 146 = .ok (.iadd, 1) := dk_96 (dk_at dksX8_account_5 2 rfl rfl)
theorem dX8_account_147 : decode cX8_account 147 = .ok (.ireturn, 1) := dk_172 (dk_at dksX8_account_5 3 rfl rfl)
theorem dX8_account_148 : decode cX8_account 148 = .ok (.aload_n 0, 1) := dk_42 (dk_at dksX8_account_5 4 rfl rfl)
theorem dX8_account_149 : decode cX8_account 149 = .ok (.invokevirtual 307, 3) := dk_182 1 51 (dk_at dksX8_account_5 5 rfl rfl)
theorem dX8_account_152 : decode cX8_account 152 = .ok (.ireturn, 1) := dk_172 (dk_at dksX8_account_5 8 rfl rfl)
theorem dX8_account_153 : decode cX8_account 153 = .ok (.aload_n 0, 1) := dk_42 (dk_at dksX8_account_5 9 rfl rfl)
theorem dX8_account_154 : decode cX8_account 154 = .ok (.getfield 60, 3) := dk_180 0 60 (dk_at dksX8_account_5 10 rfl rfl)
theorem dX8_account_157 : decode cX8_account 157 = .ok (.ireturn, 1) := dk_172 (dk_at dksX8_account_5 13 rfl rfl)
theorem dX8_account_158 : decode cX8_account 158 = .ok (.aload_n 0, 1) := dk_42 (dk_at dksX8_account_5 14 rfl rfl)
theorem dX8_account_159 : decode cX8_account 159 = .ok (.getfield 53, 3) := dk_180 0 53 (dk_at dksX8_account_5 15 rfl rfl)
theorem dX8_account_162 : decode cX8_account 162 = .ok (.ireturn, 1) := dk_172 (dk_at dksX8_account_5 18 rfl rfl)
theorem dX8_account_163 : decode cX8_account 163 = .ok (.bipush (-2), 2) := dk_16 254 (dk_at dksX8_account_5 19 rfl rfl)
theorem dX8_account_165 : decode cX8_account 165 = .ok (.ireturn, 1) := dk_172 (dk_at dksX8_account_5 21 rfl rfl)
def dkwX8_allInBays_1 : List UInt8 := [172]
abbrev dktX8_allInBays_1 : List UInt8 := dkwX8_allInBays_1 ++ []
def dkwX8_allInBays_0 : List UInt8 := [3, 60, 3, 61, 28, 7, 162, 0, 17, 27, 42, 28, 182, 0, 128, 96, 60, 132, 2, 1, 167, 255, 240, 27]
abbrev dktX8_allInBays_0 : List UInt8 := dkwX8_allInBays_0 ++ dktX8_allInBays_1
theorem dksX8_allInBays_0 : cX8_allInBays.data.toList.drop 0 = dktX8_allInBays_0 := by decide +kernel
theorem dksX8_allInBays_1 : cX8_allInBays.data.toList.drop 24 = dktX8_allInBays_1 := dk_seg dksX8_allInBays_0 24 rfl rfl
theorem dX8_allInBays_0 : decode cX8_allInBays 0 = .ok (.iconst 0, 1) := dk_3 (dk_at dksX8_allInBays_0 0 rfl rfl)
theorem dX8_allInBays_1 : decode cX8_allInBays 1 = .ok (.istore_n 1, 1) := dk_60 (dk_at dksX8_allInBays_0 1 rfl rfl)
theorem dX8_allInBays_2 : decode cX8_allInBays 2 = .ok (.iconst 0, 1) := dk_3 (dk_at dksX8_allInBays_0 2 rfl rfl)
theorem dX8_allInBays_3 : decode cX8_allInBays 3 = .ok (.istore_n 2, 1) := dk_61 (dk_at dksX8_allInBays_0 3 rfl rfl)
theorem dX8_allInBays_4 : decode cX8_allInBays 4 = .ok (.iload_n 2, 1) := dk_28 (dk_at dksX8_allInBays_0 4 rfl rfl)
theorem dX8_allInBays_5 : decode cX8_allInBays 5 = .ok (.iconst 4, 1) := dk_7 (dk_at dksX8_allInBays_0 5 rfl rfl)
theorem dX8_allInBays_6 : decode cX8_allInBays 6 = .ok (.if_icmp .ge 17, 3) := dk_162 0 17 (dk_at dksX8_allInBays_0 6 rfl rfl)
theorem dX8_allInBays_9 : decode cX8_allInBays 9 = .ok (.iload_n 1, 1) := dk_27 (dk_at dksX8_allInBays_0 9 rfl rfl)
theorem dX8_allInBays_10 : decode cX8_allInBays 10 = .ok (.aload_n 0, 1) := dk_42 (dk_at dksX8_allInBays_0 10 rfl rfl)
theorem dX8_allInBays_11 : decode cX8_allInBays 11 = .ok (.iload_n 2, 1) := dk_28 (dk_at dksX8_allInBays_0 11 rfl rfl)
theorem dX8_allInBays_12 : decode cX8_allInBays 12 = .ok (.invokevirtual 128, 3) := dk_182 0 128 (dk_at dksX8_allInBays_0 12 rfl rfl)
theorem dX8_allInBays_15 : decode cX8_allInBays 15 = .ok (.iadd, 1) := dk_96 (dk_at dksX8_allInBays_0 15 rfl rfl)
theorem dX8_allInBays_16 : decode cX8_allInBays 16 = .ok (.istore_n 1, 1) := dk_60 (dk_at dksX8_allInBays_0 16 rfl rfl)
theorem dX8_allInBays_17 : decode cX8_allInBays 17 = .ok (.iinc 2 1, 3) := dk_132 2 1 (dk_at dksX8_allInBays_0 17 rfl rfl)
theorem dX8_allInBays_20 : decode cX8_allInBays 20 = .ok (.goto (-16), 3) := dk_167 255 240 (dk_at dksX8_allInBays_0 20 rfl rfl)
theorem dX8_allInBays_23 : decode cX8_allInBays 23 = .ok (.iload_n 1, 1) := dk_27 (dk_at dksX8_allInBays_0 23 rfl rfl)
theorem dX8_allInBays_24 : decode cX8_allInBays 24 = .ok (.ireturn, 1) := dk_172 (dk_at dksX8_allInBays_1 0 rfl rfl)
def dkwX8_onFloors_0 : List UInt8 := [42, 3, 3, 182, 0, 165, 42, 4, 3, 182, 0, 165, 96, 172]
abbrev dktX8_onFloors_0 : List UInt8 := dkwX8_onFloors_0 ++ []
theorem dksX8_onFloors_0 : cX8_onFloors.data.toList.drop 0 = dktX8_onFloors_0 := by decide +kernel
theorem dX8_onFloors_0 : decode cX8_onFloors 0 = .ok (.aload_n 0, 1) := dk_42 (dk_at dksX8_onFloors_0 0 rfl rfl)
theorem dX8_onFloors_1 : decode cX8_onFloors 1 = .ok (.iconst 0, 1) := dk_3 (dk_at dksX8_onFloors_0 1 rfl rfl)
theorem dX8_onFloors_2 : decode cX8_onFloors 2 = .ok (.iconst 0, 1) := dk_3 (dk_at dksX8_onFloors_0 2 rfl rfl)
theorem dX8_onFloors_3 : decode cX8_onFloors 3 = .ok (.invokevirtual 165, 3) := dk_182 0 165 (dk_at dksX8_onFloors_0 3 rfl rfl)
theorem dX8_onFloors_6 : decode cX8_onFloors 6 = .ok (.aload_n 0, 1) := dk_42 (dk_at dksX8_onFloors_0 6 rfl rfl)
theorem dX8_onFloors_7 : decode cX8_onFloors 7 = .ok (.iconst 1, 1) := dk_4 (dk_at dksX8_onFloors_0 7 rfl rfl)
theorem dX8_onFloors_8 : decode cX8_onFloors 8 = .ok (.iconst 0, 1) := dk_3 (dk_at dksX8_onFloors_0 8 rfl rfl)
theorem dX8_onFloors_9 : decode cX8_onFloors 9 = .ok (.invokevirtual 165, 3) := dk_182 0 165 (dk_at dksX8_onFloors_0 9 rfl rfl)
theorem dX8_onFloors_12 : decode cX8_onFloors 12 = .ok (.iadd, 1) := dk_96 (dk_at dksX8_onFloors_0 12 rfl rfl)
theorem dX8_onFloors_13 : decode cX8_onFloors 13 = .ok (.ireturn, 1) := dk_172 (dk_at dksX8_onFloors_0 13 rfl rfl)
def dkwX8_bushels_0 : List UInt8 := [42, 3, 5, 182, 0, 178, 42, 4, 5, 182, 0, 178, 96, 42, 5, 5, 182, 0, 178, 96, 172]
abbrev dktX8_bushels_0 : List UInt8 := dkwX8_bushels_0 ++ []
theorem dksX8_bushels_0 : cX8_bushels.data.toList.drop 0 = dktX8_bushels_0 := by decide +kernel
theorem dX8_bushels_0 : decode cX8_bushels 0 = .ok (.aload_n 0, 1) := dk_42 (dk_at dksX8_bushels_0 0 rfl rfl)
theorem dX8_bushels_1 : decode cX8_bushels 1 = .ok (.iconst 0, 1) := dk_3 (dk_at dksX8_bushels_0 1 rfl rfl)
theorem dX8_bushels_2 : decode cX8_bushels 2 = .ok (.iconst 2, 1) := dk_5 (dk_at dksX8_bushels_0 2 rfl rfl)
theorem dX8_bushels_3 : decode cX8_bushels 3 = .ok (.invokevirtual 178, 3) := dk_182 0 178 (dk_at dksX8_bushels_0 3 rfl rfl)
theorem dX8_bushels_6 : decode cX8_bushels 6 = .ok (.aload_n 0, 1) := dk_42 (dk_at dksX8_bushels_0 6 rfl rfl)
theorem dX8_bushels_7 : decode cX8_bushels 7 = .ok (.iconst 1, 1) := dk_4 (dk_at dksX8_bushels_0 7 rfl rfl)
theorem dX8_bushels_8 : decode cX8_bushels 8 = .ok (.iconst 2, 1) := dk_5 (dk_at dksX8_bushels_0 8 rfl rfl)
theorem dX8_bushels_9 : decode cX8_bushels 9 = .ok (.invokevirtual 178, 3) := dk_182 0 178 (dk_at dksX8_bushels_0 9 rfl rfl)
theorem dX8_bushels_12 : decode cX8_bushels 12 = .ok (.iadd, 1) := dk_96 (dk_at dksX8_bushels_0 12 rfl rfl)
theorem dX8_bushels_13 : decode cX8_bushels 13 = .ok (.aload_n 0, 1) := dk_42 (dk_at dksX8_bushels_0 13 rfl rfl)
theorem dX8_bushels_14 : decode cX8_bushels 14 = .ok (.iconst 2, 1) := dk_5 (dk_at dksX8_bushels_0 14 rfl rfl)
theorem dX8_bushels_15 : decode cX8_bushels 15 = .ok (.iconst 2, 1) := dk_5 (dk_at dksX8_bushels_0 15 rfl rfl)
theorem dX8_bushels_16 : decode cX8_bushels 16 = .ok (.invokevirtual 178, 3) := dk_182 0 178 (dk_at dksX8_bushels_0 16 rfl rfl)
theorem dX8_bushels_19 : decode cX8_bushels 19 = .ok (.iadd, 1) := dk_96 (dk_at dksX8_bushels_0 19 rfl rfl)
theorem dX8_bushels_20 : decode cX8_bushels 20 = .ok (.ireturn, 1) := dk_172 (dk_at dksX8_bushels_0 20 rfl rfl)
