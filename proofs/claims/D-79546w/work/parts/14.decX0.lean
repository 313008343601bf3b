set_option maxRecDepth 100000
def dkwX0_init_5 : List UInt8 := [167, 255, 234, 42, 16, 60, 189, 0, 53, 181, 0, 55, 177]
abbrev dktX0_init_5 : List UInt8 := dkwX0_init_5 ++ []
def dkwX0_init_4 : List UInt8 := [27, 16, 8, 162, 0, 22, 42, 180, 0, 35, 27, 187, 0, 19, 89, 183, 0, 21, 83, 132, 1, 1]
abbrev dktX0_init_4 : List UInt8 := dkwX0_init_4 ++ dktX0_init_5
def dkwX0_init_3 : List UInt8 := [16, 60, 183, 0, 45, 181, 0, 46, 42, 187, 0, 43, 89, 17, 1, 44, 183, 0, 45, 181, 0, 50, 3, 60]
abbrev dktX0_init_3 : List UInt8 := dkwX0_init_3 ++ dktX0_init_4
def dkwX0_init_2 : List UInt8 := [181, 0, 32, 42, 16, 8, 189, 0, 19, 181, 0, 35, 42, 16, 252, 181, 0, 39, 42, 187, 0, 43, 89]
abbrev dktX0_init_2 : List UInt8 := dkwX0_init_2 ++ dktX0_init_3
def dkwX0_init_1 : List UInt8 := [181, 0, 26, 42, 187, 0, 19, 89, 183, 0, 21, 181, 0, 29, 42, 187, 0, 19, 89, 183, 0, 21]
abbrev dktX0_init_1 : List UInt8 := dkwX0_init_1 ++ dktX0_init_2
def dkwX0_init_0 : List UInt8 := [42, 183, 0, 14, 42, 187, 0, 19, 89, 183, 0, 21, 181, 0, 22, 42, 187, 0, 19, 89, 183, 0, 21]
abbrev dktX0_init_0 : List UInt8 := dkwX0_init_0 ++ dktX0_init_1
theorem dksX0_init_0 : cX0_init.data.toList.drop 0 = dktX0_init_0 := by decide +kernel
theorem dksX0_init_1 : cX0_init.data.toList.drop 23 = dktX0_init_1 := dk_seg dksX0_init_0 23 rfl rfl
theorem dksX0_init_2 : cX0_init.data.toList.drop 45 = dktX0_init_2 := dk_seg dksX0_init_1 22 rfl rfl
theorem dksX0_init_3 : cX0_init.data.toList.drop 68 = dktX0_init_3 := dk_seg dksX0_init_2 23 rfl rfl
theorem dksX0_init_4 : cX0_init.data.toList.drop 92 = dktX0_init_4 := dk_seg dksX0_init_3 24 rfl rfl
theorem dksX0_init_5 : cX0_init.data.toList.drop 114 = dktX0_init_5 := dk_seg dksX0_init_4 22 rfl rfl
theorem dX0_init_0 : decode cX0_init 0 = .ok (.aload_n 0, 1) := dk_42 (dk_at dksX0_init_0 0 rfl rfl)
theorem dX0_init_1 : decode cX0_init 1 = .ok (.invokespecial 14, 3) := dk_183 0 14 (dk_at dksX0_init_0 1 rfl rfl)
theorem dX0_init_4 : decode cX0_init 4 = .ok (.aload_n 0, 1) := dk_42 (dk_at dksX0_init_0 4 rfl rfl)
theorem dX0_init_5 : decode cX0_init 5 = .ok (.new 19, 3) := dk_187 0 19 (dk_at dksX0_init_0 5 rfl rfl)
theorem dX0_init_8 : decode cX0_init 8 = .ok (.dup, 1) := dk_89 (dk_at dksX0_init_0 8 rfl rfl)
theorem dX0_init_9 : decode cX0_init 9 = .ok (.invokespecial 21, 3) := dk_183 0 21 (dk_at dksX0_init_0 9 rfl rfl)
theorem dX0_init_12 : decode cX0_init 12 = .ok (.putfield 22, 3) := dk_181 0 22 (dk_at dksX0_init_0 12 rfl rfl)
theorem dX0_init_15 : decode cX0_init 15 = .ok (.aload_n 0, 1) := dk_42 (dk_at dksX0_init_0 15 rfl rfl)
theorem dX0_init_16 : decode cX0_init 16 = .ok (.new 19, 3) := dk_187 0 19 (dk_at dksX0_init_0 16 rfl rfl)
theorem dX0_init_19 : decode cX0_init 19 = .ok (.dup, 1) := dk_89 (dk_at dksX0_init_0 19 rfl rfl)
theorem dX0_init_20 : decode cX0_init 20 = .ok (.invokespecial 21, 3) := dk_183 0 21 (dk_at dksX0_init_0 20 rfl rfl)
theorem dX0_init_23 : decode cX0_init 23 = .ok (.putfield 26, 3) := dk_181 0 26 (dk_at dksX0_init_1 0 rfl rfl)
theorem dX0_init_26 : decode cX0_init 26 = .ok (.aload_n 0, 1) := dk_42 (dk_at dksX0_init_1 3 rfl rfl)
theorem dX0_init_27 : decode cX0_init 27 = .ok (.new 19, 3) := dk_187 0 19 (dk_at dksX0_init_1 4 rfl rfl)
theorem dX0_init_30 : decode cX0_init 30 = .ok (.dup, 1) := dk_89 (dk_at dksX0_init_1 7 rfl rfl)
theorem dX0_init_31 : decode cX0_init 31 = .ok (.invokespecial 21, 3) := dk_183 0 21 (dk_at dksX0_init_1 8 rfl rfl)
theorem dX0_init_34 : decode cX0_init 34 = .ok (.putfield 29, 3) := dk_181 0 29 (dk_at dksX0_init_1 11 rfl rfl)
theorem dX0_init_37 : decode cX0_init 37 = .ok (.aload_n 0, 1) := dk_42 (dk_at dksX0_init_1 14 rfl rfl)
theorem dX0_init_38 : decode cX0_init 38 = .ok (.new 19, 3) := dk_187 0 19 (dk_at dksX0_init_1 15 rfl rfl)
theorem dX0_init_41 : decode cX0_init 41 = .ok (.dup, 1) := dk_89 (dk_at dksX0_init_1 18 rfl rfl)
theorem dX0_init_42 : decode cX0_init 42 = .ok (.invokespecial 21, 3) := dk_183 0 21 (dk_at dksX0_init_1 19 rfl rfl)
theorem dX0_init_45 : decode cX0_init 45 = .ok (.putfield 32, 3) := dk_181 0 32 (dk_at dksX0_init_2 0 rfl rfl)
theorem dX0_init_48 : decode cX0_init 48 = .ok (.aload_n 0, 1) := dk_42 (dk_at dksX0_init_2 3 rfl rfl)
theorem dX0_init_49 : decode cX0_init 49 = .ok (.bipush 8, 2) := dk_16 8 (dk_at dksX0_init_2 4 rfl rfl)
theorem dX0_init_51 : decode cX0_init 51 = .ok (.anewarray 19, 3) := dk_189 0 19 (dk_at dksX0_init_2 6 rfl rfl)
theorem dX0_init_54 : decode cX0_init 54 = .ok (.putfield 35, 3) := dk_181 0 35 (dk_at dksX0_init_2 9 rfl rfl)
theorem dX0_init_57 : decode cX0_init 57 = .ok (.aload_n 0, 1) := dk_42 (dk_at dksX0_init_2 12 rfl rfl)
theorem dX0_init_58 : decode cX0_init 58 = .ok (.bipush (-4), 2) := dk_16 252 (dk_at dksX0_init_2 13 rfl rfl)
theorem dX0_init_60 : decode cX0_init 60 = .ok (.putfield 39, 3) := dk_181 0 39 (dk_at dksX0_init_2 15 rfl rfl)
theorem dX0_init_63 : decode cX0_init 63 = .ok (.aload_n 0, 1) := dk_42 (dk_at dksX0_init_2 18 rfl rfl)
theorem dX0_init_64 : decode cX0_init 64 = .ok (.new 43, 3) := dk_187 0 43 (dk_at dksX0_init_2 19 rfl rfl)
theorem dX0_init_67 : decode cX0_init 67 = .ok (.dup, 1) := dk_89 (dk_at dksX0_init_2 22 rfl rfl)
theorem dX0_init_68 : decode cX0_init 68 = .ok (.bipush 60, 2) := dk_16 60 (dk_at dksX0_init_3 0 rfl rfl)
theorem dX0_init_70 : decode cX0_init 70 = .ok (.invokespecial 45, 3) := dk_183 0 45 (dk_at dksX0_init_3 2 rfl rfl)
theorem dX0_init_73 : decode cX0_init 73 = .ok (.putfield 46, 3) := dk_181 0 46 (dk_at dksX0_init_3 5 rfl rfl)
theorem dX0_init_76 : decode cX0_init 76 = .ok (.aload_n 0, 1) := dk_42 (dk_at dksX0_init_3 8 rfl rfl)
theorem dX0_init_77 : decode cX0_init 77 = .ok (.new 43, 3) := dk_187 0 43 (dk_at dksX0_init_3 9 rfl rfl)
theorem dX0_init_80 : decode cX0_init 80 = .ok (.dup, 1) := dk_89 (dk_at dksX0_init_3 12 rfl rfl)
theorem dX0_init_81 : decode cX0_init 81 = .ok (.sipush 300, 3) := dk_17 1 44 (dk_at dksX0_init_3 13 rfl rfl)
theorem dX0_init_84 : decode cX0_init 84 = .ok (.invokespecial 45, 3) := dk_183 0 45 (dk_at dksX0_init_3 16 rfl rfl)
theorem dX0_init_87 : decode cX0_init 87 = .ok (.putfield 50, 3) := dk_181 0 50 (dk_at dksX0_init_3 19 rfl rfl)
theorem dX0_init_90 : decode cX0_init 90 = .ok (.iconst 0, 1) := dk_3 (dk_at dksX0_init_3 22 rfl rfl)
theorem dX0_init_91 : decode cX0_init 91 = .ok (.istore_n 1, 1) := dk_60 (dk_at dksX0_init_3 23 rfl rfl)
theorem dX0_init_92 : decode cX0_init 92 = .ok (.iload_n 1, 1) := dk_27 (dk_at dksX0_init_4 0 rfl rfl)
theorem dX0_init_93 : decode cX0_init 93 = .ok (.bipush 8, 2) := dk_16 8 (dk_at dksX0_init_4 1 rfl rfl)
theorem dX0_init_95 : decode cX0_init 95 = .ok (.if_icmp .ge 22, 3) := dk_162 0 22 (dk_at dksX0_init_4 3 rfl rfl)
theorem dX0_init_98 : decode cX0_init 98 = .ok (.aload_n 0, 1) := dk_42 (dk_at dksX0_init_4 6 rfl rfl)
theorem dX0_init_99 : decode cX0_init 99 = .ok (.getfield 35, 3) := dk_180 0 35 (dk_at dksX0_init_4 7 rfl rfl)
theorem dX0_init_102 : decode cX0_init 102 = .ok (.iload_n 1, 1) := dk_27 (dk_at dksX0_init_4 10 rfl rfl)
theorem dX0_init_103 : decode cX0_init 103 = .ok (.new 19, 3) := dk_187 0 19 (dk_at dksX0_init_4 11 rfl rfl)
theorem dX0_init_106 : decode cX0_init 106 = .ok (.dup, 1) := dk_89 (dk_at dksX0_init_4 14 rfl rfl)
theorem dX0_init_107 : decode cX0_init 107 = .ok (.invokespecial 21, 3) := dk_183 0 21 (dk_at dksX0_init_4 15 rfl rfl)
theorem dX0_init_110 : decode cX0_init 110 = .ok (.aastore, 1) := dk_83 (dk_at dksX0_init_4 18 rfl rfl)
theorem dX0_init_111 : decode cX0_init 111 = .ok (.iinc 1 1, 3) := dk_132 1 1 (dk_at dksX0_init_4 19 rfl rfl)
theorem dX0_init_114 : decode cX0_init 114 = .ok (.goto (-22), 3) := dk_167 255 234 (dk_at dksX0_init_5 0 rfl rfl)
theorem dX0_init_117 : decode cX0_init 117 = .ok (.aload_n 0, 1) := dk_42 (dk_at dksX0_init_5 3 rfl rfl)
theorem dX0_init_118 : decode cX0_init 118 = .ok (.bipush 60, 2) := dk_16 60 (dk_at dksX0_init_5 4 rfl rfl)
theorem dX0_init_120 : decode cX0_init 120 = .ok (.anewarray 53, 3) := dk_189 0 53 (dk_at dksX0_init_5 6 rfl rfl)
theorem dX0_init_123 : decode cX0_init 123 = .ok (.putfield 55, 3) := dk_181 0 55 (dk_at dksX0_init_5 9 rfl rfl)
theorem dX0_init_126 : decode cX0_init 126 = .ok (.return_, 1) := dk_177 (dk_at dksX0_init_5 12 rfl rfl)
def dkwX0_clear_0 : List UInt8 := [42, 180, 0, 22, 180, 0, 79, 60, 42, 180, 0, 22, 182, 0, 86, 42, 3, 181, 0, 63, 27, 172]
abbrev dktX0_clear_0 : List UInt8 := dkwX0_clear_0 ++ []
theorem dksX0_clear_0 : cX0_clear.data.toList.drop 0 = dktX0_clear_0 := by decide +kernel
theorem dX0_clear_0 : decode cX0_clear 0 = .ok (.aload_n 0, 1) := dk_42 (dk_at dksX0_clear_0 0 rfl rfl)
theorem dX0_clear_1 : decode cX0_clear 1 = .ok (.getfield 22, 3) := dk_180 0 22 (dk_at dksX0_clear_0 1 rfl rfl)
theorem dX0_clear_4 : decode cX0_clear 4 = .ok (.getfield 79, 3) := dk_180 0 79 (dk_at dksX0_clear_0 4 rfl rfl)
theorem dX0_clear_7 : decode cX0_clear 7 = .ok (.istore_n 1, 1) := dk_60 (dk_at dksX0_clear_0 7 rfl rfl)
theorem dX0_clear_8 : decode cX0_clear 8 = .ok (.aload_n 0, 1) := dk_42 (dk_at dksX0_clear_0 8 rfl rfl)
theorem dX0_clear_9 : decode cX0_clear 9 = .ok (.getfield 22, 3) := dk_180 0 22 (dk_at dksX0_clear_0 9 rfl rfl)
theorem dX0_clear_12 : decode cX0_clear 12 = .ok (.invokevirtual 86, 3) := dk_182 0 86 (dk_at dksX0_clear_0 12 rfl rfl)
theorem dX0_clear_15 : decode cX0_clear 15 = .ok (.aload_n 0, 1) := dk_42 (dk_at dksX0_clear_0 15 rfl rfl)
theorem dX0_clear_16 : decode cX0_clear 16 = .ok (.iconst 0, 1) := dk_3 (dk_at dksX0_clear_0 16 rfl rfl)
theorem dX0_clear_17 : decode cX0_clear 17 = .ok (.putfield 63, 3) := dk_181 0 63 (dk_at dksX0_clear_0 17 rfl rfl)
theorem dX0_clear_20 : decode cX0_clear 20 = .ok (.iload_n 1, 1) := dk_27 (dk_at dksX0_clear_0 20 rfl rfl)
theorem dX0_clear_21 : decode cX0_clear 21 = .ok (.ireturn, 1) := dk_172 (dk_at dksX0_clear_0 21 rfl rfl)
def dkwX0_parish_0 : List UInt8 := [42, 182, 0, 110, 42, 42, 27, 182, 0, 113, 182, 0, 117, 172, 77, 42, 44, 182, 0, 120, 172]
abbrev dktX0_parish_0 : List UInt8 := dkwX0_parish_0 ++ []
theorem dksX0_parish_0 : cX0_parish.data.toList.drop 0 = dktX0_parish_0 := by decide +kernel
theorem dX0_parish_0 : decode cX0_parish 0 = .ok (.aload_n 0, 1) := dk_42 (dk_at dksX0_parish_0 0 rfl rfl)
theorem dX0_parish_1 : decode cX0_parish 1 = .ok (.invokevirtual 110, 3) := dk_182 0 110 (dk_at dksX0_parish_0 1 rfl rfl)
theorem dX0_parish_4 : decode cX0_parish 4 = .ok (.aload_n 0, 1) := dk_42 (dk_at dksX0_parish_0 4 rfl rfl)
theorem dX0_parish_5 : decode cX0_parish 5 = .ok (.aload_n 0, 1) := dk_42 (dk_at dksX0_parish_0 5 rfl rfl)
theorem dX0_parish_6 : decode cX0_parish 6 = .ok (.iload_n 1, 1) := dk_27 (dk_at dksX0_parish_0 6 rfl rfl)
theorem dX0_parish_7 : decode cX0_parish 7 = .ok (.invokevirtual 113, 3) := dk_182 0 113 (dk_at dksX0_parish_0 7 rfl rfl)
theorem dX0_parish_10 : decode cX0_parish 10 = .ok (.invokevirtual 117, 3) := dk_182 0 117 (dk_at dksX0_parish_0 10 rfl rfl)
theorem dX0_parish_13 : decode cX0_parish 13 = .ok (.ireturn, 1) := dk_172 (dk_at dksX0_parish_0 13 rfl rfl)
theorem dX0_parish_14 : decode cX0_parish 14 = .ok (.astore_n 2, 1) := dk_77 (dk_at dksX0_parish_0 14 rfl rfl)
theorem dX0_parish_15 : decode cX0_parish 15 = .ok (.aload_n 0, 1) := dk_42 (dk_at dksX0_parish_0 15 rfl rfl)
theorem dX0_parish_16 : decode cX0_parish 16 = .ok (.aload_n 2, 1) := dk_44 (dk_at dksX0_parish_0 16 rfl rfl)
theorem dX0_parish_17 : decode cX0_parish 17 = .ok (.invokevirtual 120, 3) := dk_182 0 120 (dk_at dksX0_parish_0 17 rfl rfl)
theorem dX0_parish_20 : decode cX0_parish 20 = .ok (.ireturn, 1) := dk_172 (dk_at dksX0_parish_0 20 rfl rfl)
def dkwX0_begins_0 : List UInt8 := [42, 180, 0, 26, 42, 180, 0, 22, 182, 0, 59, 177]
abbrev dktX0_begins_0 : List UInt8 := dkwX0_begins_0 ++ []
theorem dksX0_begins_0 : cX0_begins.data.toList.drop 0 = dktX0_begins_0 := by decide +kernel
theorem dX0_begins_0 : decode cX0_begins 0 = .ok (.aload_n 0, 1) := dk_42 (dk_at dksX0_begins_0 0 rfl rfl)
theorem dX0_begins_1 : decode cX0_begins 1 = .ok (.getfield 26, 3) := dk_180 0 26 (dk_at dksX0_begins_0 1 rfl rfl)
theorem dX0_begins_4 : decode cX0_begins 4 = .ok (.aload_n 0, 1) := dk_42 (dk_at dksX0_begins_0 4 rfl rfl)
theorem dX0_begins_5 : decode cX0_begins 5 = .ok (.getfield 22, 3) := dk_180 0 22 (dk_at dksX0_begins_0 5 rfl rfl)
theorem dX0_begins_8 : decode cX0_begins 8 = .ok (.invokevirtual 59, 3) := dk_182 0 59 (dk_at dksX0_begins_0 8 rfl rfl)
theorem dX0_begins_11 : decode cX0_begins 11 = .ok (.return_, 1) := dk_177 (dk_at dksX0_begins_0 11 rfl rfl)
def dkwX0_doParish_3 : List UInt8 := [100, 172]
abbrev dktX0_doParish_3 : List UInt8 := dkwX0_doParish_3 ++ []
def dkwX0_doParish_2 : List UInt8 := [182, 0, 105, 42, 180, 0, 22, 89, 180, 0, 79, 4, 96, 181, 0, 79, 42, 180, 0, 22, 180, 0, 79, 4]
abbrev dktX0_doParish_2 : List UInt8 := dkwX0_doParish_2 ++ dktX0_doParish_3
def dkwX0_doParish_1 : List UInt8 := [3, 4, 16, 6, 184, 0, 97, 42, 180, 0, 22, 180, 0, 101, 42, 180, 0, 22, 180, 0, 79, 50, 27]
abbrev dktX0_doParish_1 : List UInt8 := dkwX0_doParish_1 ++ dktX0_doParish_2
def dkwX0_doParish_0 : List UInt8 := [27, 184, 0, 89, 2, 184, 0, 93, 42, 180, 0, 22, 180, 0, 79, 16, 6, 162, 0, 7, 4, 167, 0, 4]
abbrev dktX0_doParish_0 : List UInt8 := dkwX0_doParish_0 ++ dktX0_doParish_1
theorem dksX0_doParish_0 : cX0_doParish.data.toList.drop 0 = dktX0_doParish_0 := by decide +kernel
theorem dksX0_doParish_1 : cX0_doParish.data.toList.drop 24 = dktX0_doParish_1 := dk_seg dksX0_doParish_0 24 rfl rfl
theorem dksX0_doParish_2 : cX0_doParish.data.toList.drop 47 = dktX0_doParish_2 := dk_seg dksX0_doParish_1 23 rfl rfl
theorem dksX0_doParish_3 : cX0_doParish.data.toList.drop 71 = dktX0_doParish_3 := dk_seg dksX0_doParish_2 24 rfl rfl
theorem dX0_doParish_0 : decode cX0_doParish 0 = .ok (.iload_n 1, 1) := dk_27 (dk_at dksX0_doParish_0 0 rfl rfl)
theorem dX0_doParish_1 : decode cX0_doParish 1 = .ok (.invokestatic 89, 3) := dk_184 0 89 (dk_at dksX0_doParish_0 1 rfl rfl)
theorem dX0_doParish_4 : decode cX0_doParish 4 = .ok (.iconst (-1), 1) := dk_2 (dk_at dksX0_doParish_0 4 rfl rfl)
theorem dX0_doParish_5 : decode cX0_doParish 5 = .ok (.invokestatic 93, 3) := dk_184 0 93 (dk_at dksX0_doParish_0 5 rfl rfl)
theorem dX0_doParish_8 : decode cX0_doParish 8 = .ok (.aload_n 0, 1) := dk_42 (dk_at dksX0_doParish_0 8 rfl rfl)
theorem dX0_doParish_9 : decode cX0_doParish 9 = .ok (.getfield 22, 3) := dk_180 0 22 (dk_at dksX0_doParish_0 9 rfl rfl)
theorem dX0_doParish_12 : decode cX0_doParish 12 = .ok (.getfield 79, 3) := dk_180 0 79 (dk_at dksX0_doParish_0 12 rfl rfl)
theorem dX0_doParish_15 : decode cX0_doParish 15 = .ok (.bipush 6, 2) := dk_16 6 (dk_at dksX0_doParish_0 15 rfl rfl)
theorem dX0_doParish_17 : decode cX0_doParish 17 = .ok (.if_icmp .ge 7, 3) := dk_162 0 7 (dk_at dksX0_doParish_0 17 rfl rfl)
theorem dX0_doParish_20 : decode cX0_doParish 20 = .ok (.iconst 1, 1) := dk_4 (dk_at dksX0_doParish_0 20 rfl rfl)
theorem dX0_doParish_21 : decode cX0_doParish 21 = .ok (.goto 4, 3) := dk_167 0 4 (dk_at dksX0_doParish_0 21 rfl rfl)
theorem dX0_doParish_24 : decode cX0_doParish 24 = .ok (.iconst 0, 1) := dk_3 (dk_at dksX0_doParish_1 0 rfl rfl)
theorem dX0_doParish_25 : decode cX0_doParish 25 = .ok (.iconst 1, 1) := dk_4 (dk_at dksX0_doParish_1 1 rfl rfl)
theorem dX0_doParish_26 : decode cX0_doParish 26 = .ok (.bipush 6, 2) := dk_16 6 (dk_at dksX0_doParish_1 2 rfl rfl)
theorem dX0_doParish_28 : decode cX0_doParish 28 = .ok (.invokestatic 97, 3) := dk_184 0 97 (dk_at dksX0_doParish_1 4 rfl rfl)
theorem dX0_doParish_31 : decode cX0_doParish 31 = .ok (.aload_n 0, 1) := dk_42 (dk_at dksX0_doParish_1 7 rfl rfl)
theorem dX0_doParish_32 : decode cX0_doParish 32 = .ok (.getfield 22, 3) := dk_180 0 22 (dk_at dksX0_doParish_1 8 rfl rfl)
theorem dX0_doParish_35 : decode cX0_doParish 35 = .ok (.getfield 101, 3) := dk_180 0 101 (dk_at dksX0_doParish_1 11 rfl rfl)
theorem dX0_doParish_38 : decode cX0_doParish 38 = .ok (.aload_n 0, 1) := dk_42 (dk_at dksX0_doParish_1 14 rfl rfl)
theorem dX0_doParish_39 : decode cX0_doParish 39 = .ok (.getfield 22, 3) := dk_180 0 22 (dk_at dksX0_doParish_1 15 rfl rfl)
theorem dX0_doParish_42 : decode cX0_doParish 42 = .ok (.getfield 79, 3) := dk_180 0 79 (dk_at dksX0_doParish_1 18 rfl rfl)
theorem dX0_doParish_45 : decode cX0_doParish 45 = .ok (.aaload, 1) := dk_50 (dk_at dksX0_doParish_1 21 rfl rfl)
theorem dX0_doParish_46 : decode cX0_doParish 46 = .ok (.iload_n 1, 1) := dk_27 (dk_at dksX0_doParish_1 22 rfl rfl)
theorem dX0_doParish_47 : decode cX0_doParish 47 = .ok (.invokevirtual 105, 3) := dk_182 0 105 (dk_at dksX0_doParish_2 0 rfl rfl)
theorem dX0_doParish_50 : decode cX0_doParish 50 = .ok (.aload_n 0, 1) := dk_42 (dk_at dksX0_doParish_2 3 rfl rfl)
theorem dX0_doParish_51 : decode cX0_doParish 51 = .ok (.getfield 22, 3) := dk_180 0 22 (dk_at dksX0_doParish_2 4 rfl rfl)
theorem dX0_doParish_54 : decode cX0_doParish 54 = .ok (.dup, 1) := dk_89 (dk_at dksX0_doParish_2 7 rfl rfl)
theorem dX0_doParish_55 : decode cX0_doParish 55 = .ok (.getfield 79, 3) := dk_180 0 79 (dk_at dksX0_doParish_2 8 rfl rfl)
theorem dX0_doParish_58 : decode cX0_doParish 58 = .ok (.iconst 1, 1) := dk_4 (dk_at dksX0_doParish_2 11 rfl rfl)
theorem dX0_doParish_59 : decode cX0_doParish 59 = .ok (.iadd, 1) := dk_96 (dk_at dksX0_doParish_2 12 rfl rfl)
theorem dX0_doParish_60 : decode cX0_doParish 60 = .ok (.putfield 79, 3) := dk_181 0 79 (dk_at dksX0_doParish_2 13 rfl rfl)
theorem dX0_doParish_63 : decode cX0_doParish 63 = .ok (.aload_n 0, 1) := dk_42 (dk_at dksX0_doParish_2 16 rfl rfl)
theorem dX0_doParish_64 : decode cX0_doParish 64 = .ok (.getfield 22, 3) := dk_180 0 22 (dk_at dksX0_doParish_2 17 rfl rfl)
theorem dX0_doParish_67 : decode cX0_doParish 67 = .ok (.getfield 79, 3) := dk_180 0 79 (dk_at dksX0_doParish_2 20 rfl rfl)
theorem dX0_doParish_70 : decode cX0_doParish 70 = .ok (.iconst 1, 1) := dk_4 (dk_at dksX0_doParish_2 23 rfl rfl)
theorem dX0_doParish_71 : decode cX0_doParish 71 = .ok (.isub, 1) := dk_100 (dk_at dksX0_doParish_3 0 rfl rfl)
theorem dX0_doParish_72 : decode cX0_doParish 72 = .ok (.ireturn, 1) := dk_172 (dk_at dksX0_doParish_3 1 rfl rfl)
def dkwX0_isKind_0 : List UInt8 := [26, 3, 5, 184, 0, 82, 172]
abbrev dktX0_isKind_0 : List UInt8 := dkwX0_isKind_0 ++ []
theorem dksX0_isKind_0 : cX0_isKind.data.toList.drop 0 = dktX0_isKind_0 := by decide +kernel
theorem dX0_isKind_0 : decode cX0_isKind 0 = .ok (.iload_n 0, 1) := dk_26 (dk_at dksX0_isKind_0 0 rfl rfl)
theorem dX0_isKind_1 : decode cX0_isKind 1 = .ok (.iconst 0, 1) := dk_3 (dk_at dksX0_isKind_0 1 rfl rfl)
theorem dX0_isKind_2 : decode cX0_isKind 2 = .ok (.iconst 2, 1) := dk_5 (dk_at dksX0_isKind_0 2 rfl rfl)
theorem dX0_isKind_3 : decode cX0_isKind 3 = .ok (.invokestatic 82, 3) := dk_184 0 82 (dk_at dksX0_isKind_0 3 rfl rfl)
theorem dX0_isKind_6 : decode cX0_isKind 6 = .ok (.ireturn, 1) := dk_172 (dk_at dksX0_isKind_0 6 rfl rfl)
def dkwX0_within_0 : List UInt8 := [26, 27, 161, 0, 12, 26, 28, 163, 0, 7, 4, 167, 0, 4, 3, 172]
abbrev dktX0_within_0 : List UInt8 := dkwX0_within_0 ++ []
theorem dksX0_within_0 : cX0_within.data.toList.drop 0 = dktX0_within_0 := by decide +kernel
theorem dX0_within_0 : decode cX0_within 0 = .ok (.iload_n 0, 1) := dk_26 (dk_at dksX0_within_0 0 rfl rfl)
theorem dX0_within_1 : decode cX0_within 1 = .ok (.iload_n 1, 1) := dk_27 (dk_at dksX0_within_0 1 rfl rfl)
theorem dX0_within_2 : decode cX0_within 2 = .ok (.if_icmp .lt 12, 3) := dk_161 0 12 (dk_at dksX0_within_0 2 rfl rfl)
theorem dX0_within_5 : decode cX0_within 5 = .ok (.iload_n 0, 1) := dk_26 (dk_at dksX0_within_0 5 rfl rfl)
theorem dX0_within_6 : decode cX0_within 6 = .ok (.iload_n 2, 1) := dk_28 (dk_at dksX0_within_0 6 rfl rfl)
theorem dX0_within_7 : decode cX0_within 7 = .ok (.if_icmp .gt 7, 3) := dk_163 0 7 (dk_at dksX0_within_0 7 rfl rfl)
theorem dX0_within_10 : decode cX0_within 10 = .ok (.iconst 1, 1) := dk_4 (dk_at dksX0_within_0 10 rfl rfl)
theorem dX0_within_11 : decode cX0_within 11 = .ok (.goto 4, 3) := dk_167 0 4 (dk_at dksX0_within_0 11 rfl rfl)
theorem dX0_within_14 : decode cX0_within 14 = .ok (.iconst 0, 1) := dk_3 (dk_at dksX0_within_0 14 rfl rfl)
theorem dX0_within_15 : decode cX0_within 15 = .ok (.ireturn, 1) := dk_172 (dk_at dksX0_within_0 15 rfl rfl)
def dkwX0_want_0 : List UInt8 := [26, 154, 0, 12, 187, 0, 3, 89, 27, 183, 0, 5, 191, 177]
abbrev dktX0_want_0 : List UInt8 := dkwX0_want_0 ++ []
theorem dksX0_want_0 : cX0_want.data.toList.drop 0 = dktX0_want_0 := by decide +kernel
theorem dX0_want_0 : decode cX0_want 0 = .ok (.iload_n 0, 1) := dk_26 (dk_at dksX0_want_0 0 rfl rfl)
theorem dX0_want_1 : decode cX0_want 1 = .ok (.ifCond .ne 12, 3) := dk_154 0 12 (dk_at dksX0_want_0 1 rfl rfl)
theorem dX0_want_4 : decode cX0_want 4 = .ok (.new 3, 3) := dk_187 0 3 (dk_at dksX0_want_0 4 rfl rfl)
theorem dX0_want_7 : decode cX0_want 7 = .ok (.dup, 1) := dk_89 (dk_at dksX0_want_0 7 rfl rfl)
theorem dX0_want_8 : decode cX0_want 8 = .ok (.iload_n 1, 1) := dk_27 (dk_at dksX0_want_0 8 rfl rfl)
theorem dX0_want_9 : decode cX0_want 9 = .ok (.invokespecial 5, 3) := dk_183 0 5 (dk_at dksX0_want_0 9 rfl rfl)
theorem dX0_want_12 : decode cX0_want 12 = .ok (.athrow, 1) := dk_191 (dk_at dksX0_want_0 12 rfl rfl)
theorem dX0_want_13 : decode cX0_want 13 = .ok (.return_, 1) := dk_177 (dk_at dksX0_want_0 13 rfl rfl)
def dkwX0_allow_0 : List UInt8 := [26, 154, 0, 13, 187, 0, 9, 89, 27, 28, 183, 0, 11, 191, 177]
abbrev dktX0_allow_0 : List UInt8 := dkwX0_allow_0 ++ []
theorem dksX0_allow_0 : cX0_allow.data.toList.drop 0 = dktX0_allow_0 := by decide +kernel
theorem dX0_allow_0 : decode cX0_allow 0 = .ok (.iload_n 0, 1) := dk_26 (dk_at dksX0_allow_0 0 rfl rfl)
theorem dX0_allow_1 : decode cX0_allow 1 = .ok (.ifCond .ne 13, 3) := dk_154 0 13 (dk_at dksX0_allow_0 1 rfl rfl)
theorem dX0_allow_4 : decode cX0_allow 4 = .ok (.new 9, 3) := dk_187 0 9 (dk_at dksX0_allow_0 4 rfl rfl)
theorem dX0_allow_7 : decode cX0_allow 7 = .ok (.dup, 1) := dk_89 (dk_at dksX0_allow_0 7 rfl rfl)
theorem dX0_allow_8 : decode cX0_allow 8 = .ok (.iload_n 1, 1) := dk_27 (dk_at dksX0_allow_0 8 rfl rfl)
theorem dX0_allow_9 : decode cX0_allow 9 = .ok (.iload_n 2, 1) := dk_28 (dk_at dksX0_allow_0 9 rfl rfl)
theorem dX0_allow_10 : decode cX0_allow 10 = .ok (.invokespecial 11, 3) := dk_183 0 11 (dk_at dksX0_allow_0 10 rfl rfl)
theorem dX0_allow_13 : decode cX0_allow 13 = .ok (.athrow, 1) := dk_191 (dk_at dksX0_allow_0 13 rfl rfl)
theorem dX0_allow_14 : decode cX0_allow 14 = .ok (.return_, 1) := dk_177 (dk_at dksX0_allow_0 14 rfl rfl)
def dkwX0_changed_3 : List UInt8 := [4, 96, 181, 0, 63, 27, 172]
abbrev dktX0_changed_3 : List UInt8 := dkwX0_changed_3 ++ []
def dkwX0_changed_2 : List UInt8 := [181, 0, 63, 42, 180, 0, 35, 42, 180, 0, 63, 50, 42, 180, 0, 26, 182, 0, 59, 42, 89, 180, 0, 63]
abbrev dktX0_changed_2 : List UInt8 := dkwX0_changed_2 ++ dktX0_changed_3
def dkwX0_changed_1 : List UInt8 := [180, 0, 35, 3, 16, 7, 184, 0, 66, 42, 180, 0, 35, 16, 7, 44, 83, 42, 89, 180, 0, 63, 4, 100]
abbrev dktX0_changed_1 : List UInt8 := dkwX0_changed_1 ++ dktX0_changed_2
def dkwX0_changed_0 : List UInt8 := [42, 180, 0, 63, 16, 8, 160, 0, 43, 42, 180, 0, 35, 3, 50, 77, 42, 180, 0, 35, 4, 42]
abbrev dktX0_changed_0 : List UInt8 := dkwX0_changed_0 ++ dktX0_changed_1
theorem dksX0_changed_0 : cX0_changed.data.toList.drop 0 = dktX0_changed_0 := by decide +kernel
theorem dksX0_changed_1 : cX0_changed.data.toList.drop 22 = dktX0_changed_1 := dk_seg dksX0_changed_0 22 rfl rfl
theorem dksX0_changed_2 : cX0_changed.data.toList.drop 46 = dktX0_changed_2 := dk_seg dksX0_changed_1 24 rfl rfl
theorem dksX0_changed_3 : cX0_changed.data.toList.drop 70 = dktX0_changed_3 := dk_seg dksX0_changed_2 24 rfl rfl
theorem dX0_changed_0 : decode cX0_changed 0 = .ok (.aload_n 0, 1) := dk_42 (dk_at dksX0_changed_0 0 rfl rfl)
theorem dX0_changed_1 : decode cX0_changed 1 = .ok (.getfield 63, 3) := dk_180 0 63 (dk_at dksX0_changed_0 1 rfl rfl)
theorem dX0_changed_4 : decode cX0_changed 4 = .ok (.bipush 8, 2) := dk_16 8 (dk_at dksX0_changed_0 4 rfl rfl)
theorem dX0_changed_6 : decode cX0_changed 6 = .ok (.if_icmp .ne 43, 3) := dk_160 0 43 (dk_at dksX0_changed_0 6 rfl rfl)
theorem dX0_changed_9 : decode cX0_changed 9 = .ok (.aload_n 0, 1) := dk_42 (dk_at dksX0_changed_0 9 rfl rfl)
theorem dX0_changed_10 : decode cX0_changed 10 = .ok (.getfield 35, 3) := dk_180 0 35 (dk_at dksX0_changed_0 10 rfl rfl)
theorem dX0_changed_13 : decode cX0_changed 13 = .ok (.iconst 0, 1) := dk_3 (dk_at dksX0_changed_0 13 rfl rfl)
theorem dX0_changed_14 : decode cX0_changed 14 = .ok (.aaload, 1) := dk_50 (dk_at dksX0_changed_0 14 rfl rfl)
theorem dX0_changed_15 : decode cX0_changed 15 = .ok (.astore_n 2, 1) := dk_77 (dk_at dksX0_changed_0 15 rfl rfl)
theorem dX0_changed_16 : decode cX0_changed 16 = .ok (.aload_n 0, 1) := dk_42 (dk_at dksX0_changed_0 16 rfl rfl)
theorem dX0_changed_17 : decode cX0_changed 17 = .ok (.getfield 35, 3) := dk_180 0 35 (dk_at dksX0_changed_0 17 rfl rfl)
theorem dX0_changed_20 : decode cX0_changed 20 = .ok (.iconst 1, 1) := dk_4 (dk_at dksX0_changed_0 20 rfl rfl)
theorem dX0_changed_21 : decode cX0_changed 21 = .ok (.aload_n 0, 1) := dk_42 (dk_at dksX0_changed_0 21 rfl rfl)
theorem dX0_changed_22 : decode cX0_changed 22 = .ok (.getfield 35, 3) := dk_180 0 35 (dk_at dksX0_changed_1 0 rfl rfl)
theorem dX0_changed_25 : decode cX0_changed 25 = .ok (.iconst 0, 1) := dk_3 (dk_at dksX0_changed_1 3 rfl rfl)
theorem dX0_changed_26 : decode cX0_changed 26 = .ok (.bipush 7, 2) := dk_16 7 (dk_at dksX0_changed_1 4 rfl rfl)
theorem dX0_changed_28 : decode cX0_changed 28 = .ok (.invokestatic 66, 3) := dk_184 0 66 (dk_at dksX0_changed_1 6 rfl rfl)
theorem dX0_changed_31 : decode cX0_changed 31 = .ok (.aload_n 0, 1) := dk_42 (dk_at dksX0_changed_1 9 rfl rfl)
theorem dX0_changed_32 : decode cX0_changed 32 = .ok (.getfield 35, 3) := dk_180 0 35 (dk_at dksX0_changed_1 10 rfl rfl)
theorem dX0_changed_35 : decode cX0_changed 35 = .ok (.bipush 7, 2) := dk_16 7 (dk_at dksX0_changed_1 13 rfl rfl)
theorem dX0_changed_37 : decode cX0_changed 37 = .ok (.aload_n 2, 1) := dk_44 (dk_at dksX0_changed_1 15 rfl rfl)
theorem dX0_changed_38 : decode cX0_changed 38 = .ok (.aastore, 1) := dk_83 (dk_at dksX0_changed_1 16 rfl rfl)
theorem dX0_changed_39 : decode cX0_changed 39 = .ok (.aload_n 0, 1) := dk_42 (dk_at dksX0_changed_1 17 rfl rfl)
theorem dX0_changed_40 : decode cX0_changed 40 = .ok (.dup, 1) := dk_89 (dk_at dksX0_changed_1 18 rfl rfl)
theorem dX0_changed_41 : decode cX0_changed 41 = .ok (.getfield 63, 3) := dk_180 0 63 (dk_at dksX0_changed_1 19 rfl rfl)
theorem dX0_changed_44 : decode cX0_changed 44 = .ok (.iconst 1, 1) := dk_4 (dk_at dksX0_changed_1 22 rfl rfl)
theorem dX0_changed_45 : decode cX0_changed 45 = .ok (.isub, 1) := dk_100 (dk_at dksX0_changed_1 23 rfl rfl)
theorem dX0_changed_46 : decode cX0_changed 46 = .ok (.putfield 63, 3) := dk_181 0 63 (dk_at dksX0_changed_2 0 rfl rfl)
theorem dX0_changed_49 : decode cX0_changed 49 = .ok (.aload_n 0, 1) := dk_42 (dk_at dksX0_changed_2 3 rfl rfl)
theorem dX0_changed_50 : decode cX0_changed 50 = .ok (.getfield 35, 3) := dk_180 0 35 (dk_at dksX0_changed_2 4 rfl rfl)
theorem dX0_changed_53 : decode cX0_changed 53 = .ok (.aload_n 0, 1) := dk_42 (dk_at dksX0_changed_2 7 rfl rfl)
theorem dX0_changed_54 : decode cX0_changed 54 = .ok (.getfield 63, 3) := dk_180 0 63 (dk_at dksX0_changed_2 8 rfl rfl)
theorem dX0_changed_57 : decode cX0_changed 57 = .ok (.aaload, 1) := dk_50 (dk_at dksX0_changed_2 11 rfl rfl)
theorem dX0_changed_58 : decode cX0_changed 58 = .ok (.aload_n 0, 1) := dk_42 (dk_at dksX0_changed_2 12 rfl rfl)
theorem dX0_changed_59 : decode cX0_changed 59 = .ok (.getfield 26, 3) := dk_180 0 26 (dk_at dksX0_changed_2 13 rfl rfl)
theorem dX0_changed_62 : decode cX0_changed 62 = .ok (.invokevirtual 59, 3) := dk_182 0 59 (dk_at dksX0_changed_2 16 rfl rfl)
theorem dX0_changed_65 : decode cX0_changed 65 = .ok (.aload_n 0, 1) := dk_42 (dk_at dksX0_changed_2 19 rfl rfl)
theorem dX0_changed_66 : decode cX0_changed 66 = .ok (.dup, 1) := dk_89 (dk_at dksX0_changed_2 20 rfl rfl)
theorem dX0_changed_67 : decode cX0_changed 67 = .ok (.getfield 63, 3) := dk_180 0 63 (dk_at dksX0_changed_2 21 rfl rfl)
theorem dX0_changed_70 : decode cX0_changed 70 = .ok (.iconst 1, 1) := dk_4 (dk_at dksX0_changed_3 0 rfl rfl)
theorem dX0_changed_71 : decode cX0_changed 71 = .ok (.iadd, 1) := dk_96 (dk_at dksX0_changed_3 1 rfl rfl)
theorem dX0_changed_72 : decode cX0_changed 72 = .ok (.putfield 63, 3) := dk_181 0 63 (dk_at dksX0_changed_3 2 rfl rfl)
theorem dX0_changed_75 : decode cX0_changed 75 = .ok (.iload_n 1, 1) := dk_27 (dk_at dksX0_changed_3 5 rfl rfl)
theorem dX0_changed_76 : decode cX0_changed 76 = .ok (.ireturn, 1) := dk_172 (dk_at dksX0_changed_3 6 rfl rfl)
def dkwX0_notDone_1 : List UInt8 := [180, 0, 72, 172, 42, 43, 192, 0, 9, 181, 0, 75, 16, 253, 172]
abbrev dktX0_notDone_1 : List UInt8 := dkwX0_notDone_1 ++ []
def dkwX0_notDone_0 : List UInt8 := [42, 180, 0, 22, 42, 180, 0, 26, 182, 0, 59, 43, 193, 0, 3, 153, 0, 11, 43, 192, 0, 3]
abbrev dktX0_notDone_0 : List UInt8 := dkwX0_notDone_0 ++ dktX0_notDone_1
theorem dksX0_notDone_0 : cX0_notDone.data.toList.drop 0 = dktX0_notDone_0 := by decide +kernel
theorem dksX0_notDone_1 : cX0_notDone.data.toList.drop 22 = dktX0_notDone_1 := dk_seg dksX0_notDone_0 22 rfl rfl
theorem dX0_notDone_0 : decode cX0_notDone 0 = .ok (.aload_n 0, 1) := dk_42 (dk_at dksX0_notDone_0 0 rfl rfl)
theorem dX0_notDone_1 : decode cX0_notDone 1 = .ok (.getfield 22, 3) := dk_180 0 22 (dk_at dksX0_notDone_0 1 rfl rfl)
theorem dX0_notDone_4 : decode cX0_notDone 4 = .ok (.aload_n 0, 1) := dk_42 (dk_at dksX0_notDone_0 4 rfl rfl)
theorem dX0_notDone_5 : decode cX0_notDone 5 = .ok (.getfield 26, 3) := dk_180 0 26 (dk_at dksX0_notDone_0 5 rfl rfl)
theorem dX0_notDone_8 : decode cX0_notDone 8 = .ok (.invokevirtual 59, 3) := dk_182 0 59 (dk_at dksX0_notDone_0 8 rfl rfl)
theorem dX0_notDone_11 : decode cX0_notDone 11 = .ok (.aload_n 1, 1) := dk_43 (dk_at dksX0_notDone_0 11 rfl rfl)
theorem dX0_notDone_12 : decode cX0_notDone 12 = .ok (.instanceof 3, 3) := dk_193 0 3 (dk_at dksX0_notDone_0 12 rfl rfl)
theorem dX0_notDone_15 : decode cX0_notDone 15 = .ok (.ifCond .eq 11, 3) := dk_153 0 11 (dk_at dksX0_notDone_0 15 rfl rfl)
theorem dX0_notDone_18 : decode cX0_notDone 18 = .ok (.aload_n 1, 1) := dk_43 (dk_at dksX0_notDone_0 18 rfl rfl)
theorem dX0_notDone_19 : decode cX0_notDone 19 = .ok (.checkcast 3, 3) := dk_192 0 3 (dk_at dksX0_notDone_0 19 rfl rfl)
theorem dX0_notDone_22 : decode cX0_notDone 22 = .ok (.getfield 72, 3) := dk_180 0 72 (dk_at dksX0_notDone_1 0 rfl rfl)
theorem dX0_notDone_25 : decode cX0_notDone 25 = .ok (.ireturn, 1) := dk_172 (dk_at dksX0_notDone_1 3 rfl rfl)
theorem dX0_notDone_26 : decode cX0_notDone 26 = .ok (.aload_n 0, 1) := dk_42 (dk_at dksX0_notDone_1 4 rfl rfl)
theorem dX0_notDone_27 : decode cX0_notDone 27 = .ok (.aload_n 1, 1) := dk_43 (dk_at dksX0_notDone_1 5 rfl rfl)
theorem dX0_notDone_28 : decode cX0_notDone 28 = .ok (.checkcast 9, 3) := dk_192 0 9 (dk_at dksX0_notDone_1 6 rfl rfl)
theorem dX0_notDone_31 : decode cX0_notDone 31 = .ok (.putfield 75, 3) := dk_181 0 75 (dk_at dksX0_notDone_1 9 rfl rfl)
theorem dX0_notDone_34 : decode cX0_notDone 34 = .ok (.bipush (-3), 2) := dk_16 253 (dk_at dksX0_notDone_1 12 rfl rfl)
theorem dX0_notDone_36 : decode cX0_notDone 36 = .ok (.ireturn, 1) := dk_172 (dk_at dksX0_notDone_1 14 rfl rfl)
def dkwX0_harvest_0 : List UInt8 := [42, 182, 0, 110, 42, 42, 27, 28, 182, 0, 139, 182, 0, 117, 172, 78, 42, 45, 182, 0, 120, 172]
abbrev dktX0_harvest_0 : List UInt8 := dkwX0_harvest_0 ++ []
theorem dksX0_harvest_0 : cX0_harvest.data.toList.drop 0 = dktX0_harvest_0 := by decide +kernel
theorem dX0_harvest_0 : decode cX0_harvest 0 = .ok (.aload_n 0, 1) := dk_42 (dk_at dksX0_harvest_0 0 rfl rfl)
theorem dX0_harvest_1 : decode cX0_harvest 1 = .ok (.invokevirtual 110, 3) := dk_182 0 110 (dk_at dksX0_harvest_0 1 rfl rfl)
theorem dX0_harvest_4 : decode cX0_harvest 4 = .ok (.aload_n 0, 1) := dk_42 (dk_at dksX0_harvest_0 4 rfl rfl)
theorem dX0_harvest_5 : decode cX0_harvest 5 = .ok (.aload_n 0, 1) := dk_42 (dk_at dksX0_harvest_0 5 rfl rfl)
theorem dX0_harvest_6 : decode cX0_harvest 6 = .ok (.iload_n 1, 1) := dk_27 (dk_at dksX0_harvest_0 6 rfl rfl)
theorem dX0_harvest_7 : decode cX0_harvest 7 = .ok (.iload_n 2, 1) := dk_28 (dk_at dksX0_harvest_0 7 rfl rfl)
theorem dX0_harvest_8 : decode cX0_harvest 8 = .ok (.invokevirtual 139, 3) := dk_182 0 139 (dk_at dksX0_harvest_0 8 rfl rfl)
theorem dX0_harvest_11 : decode cX0_harvest 11 = .ok (.invokevirtual 117, 3) := dk_182 0 117 (dk_at dksX0_harvest_0 11 rfl rfl)
theorem dX0_harvest_14 : decode cX0_harvest 14 = .ok (.ireturn, 1) := dk_172 (dk_at dksX0_harvest_0 14 rfl rfl)
theorem dX0_harvest_15 : decode cX0_harvest 15 = .ok (.astore_n 3, 1) := dk_78 (dk_at dksX0_harvest_0 15 rfl rfl)
theorem dX0_harvest_16 : decode cX0_harvest 16 = .ok (.aload_n 0, 1) := dk_42 (dk_at dksX0_harvest_0 16 rfl rfl)
theorem dX0_harvest_17 : decode cX0_harvest 17 = .ok (.aload_n 3, 1) := dk_45 (dk_at dksX0_harvest_0 17 rfl rfl)
theorem dX0_harvest_18 : decode cX0_harvest 18 = .ok (.invokevirtual 120, 3) := dk_182 0 120 (dk_at dksX0_harvest_0 18 rfl rfl)
theorem dX0_harvest_21 : decode cX0_harvest 21 = .ok (.ireturn, 1) := dk_172 (dk_at dksX0_harvest_0 21 rfl rfl)
def dkwX0_doHarvest_2 : List UInt8 := [181, 0, 130, 21, 4, 158, 0, 16, 45, 42, 180, 0, 22, 180, 0, 133, 21, 4, 182, 0, 136, 21, 4, 172]
abbrev dktX0_doHarvest_2 : List UInt8 := dkwX0_doHarvest_2 ++ []
def dkwX0_doHarvest_1 : List UInt8 := [180, 0, 22, 180, 0, 101, 27, 50, 78, 45, 28, 182, 0, 127, 54, 4, 45, 89, 180, 0, 130, 28, 96]
abbrev dktX0_doHarvest_1 : List UInt8 := dkwX0_doHarvest_1 ++ dktX0_doHarvest_2
def dkwX0_doHarvest_0 : List UInt8 := [42, 27, 182, 0, 124, 2, 184, 0, 93, 28, 4, 17, 3, 231, 184, 0, 82, 16, 254, 184, 0, 93, 42]
abbrev dktX0_doHarvest_0 : List UInt8 := dkwX0_doHarvest_0 ++ dktX0_doHarvest_1
theorem dksX0_doHarvest_0 : cX0_doHarvest.data.toList.drop 0 = dktX0_doHarvest_0 := by decide +kernel
theorem dksX0_doHarvest_1 : cX0_doHarvest.data.toList.drop 23 = dktX0_doHarvest_1 := dk_seg dksX0_doHarvest_0 23 rfl rfl
theorem dksX0_doHarvest_2 : cX0_doHarvest.data.toList.drop 46 = dktX0_doHarvest_2 := dk_seg dksX0_doHarvest_1 23 rfl rfl
theorem dX0_doHarvest_0 : decode cX0_doHarvest 0 = .ok (.aload_n 0, 1) := dk_42 (dk_at dksX0_doHarvest_0 0 rfl rfl)
theorem dX0_doHarvest_1 : decode cX0_doHarvest 1 = .ok (.iload_n 1, 1) := dk_27 (dk_at dksX0_doHarvest_0 1 rfl rfl)
theorem dX0_doHarvest_2 : decode cX0_doHarvest 2 = .ok (.invokevirtual 124, 3) := dk_182 0 124 (dk_at dksX0_doHarvest_0 2 rfl rfl)
theorem dX0_doHarvest_5 : decode cX0_doHarvest 5 = .ok (.iconst (-1), 1) := dk_2 (dk_at dksX0_doHarvest_0 5 rfl rfl)
theorem dX0_doHarvest_6 : decode cX0_doHarvest 6 = .ok (.invokestatic 93, 3) := dk_184 0 93 (dk_at dksX0_doHarvest_0 6 rfl rfl)
theorem dX0_doHarvest_9 : decode cX0_doHarvest 9 = .ok (.iload_n 2, 1) := dk_28 (dk_at dksX0_doHarvest_0 9 rfl rfl)
theorem dX0_doHarvest_10 : decode cX0_doHarvest 10 = .ok (.iconst 1, 1) := dk_4 (dk_at dksX0_doHarvest_0 10 rfl rfl)
theorem dX0_doHarvest_11 : decode cX0_doHarvest 11 = .ok (.sipush 999, 3) := dk_17 3 231 (dk_at dksX0_doHarvest_0 11 rfl rfl)
theorem dX0_doHarvest_14 : decode cX0_doHarvest 14 = .ok (.invokestatic 82, 3) := dk_184 0 82 (dk_at dksX0_doHarvest_0 14 rfl rfl)
theorem dX0_doHarvest_17 : decode cX0_doHarvest 17 = .ok (.bipush (-2), 2) := dk_16 254 (dk_at dksX0_doHarvest_0 17 rfl rfl)
theorem dX0_doHarvest_19 : decode cX0_doHarvest 19 = .ok (.invokestatic 93, 3) := dk_184 0 93 (dk_at dksX0_doHarvest_0 19 rfl rfl)
theorem dX0_doHarvest_22 : decode cX0_doHarvest 22 = .ok (.aload_n 0, 1) := dk_42 (dk_at dksX0_doHarvest_0 22 rfl rfl)
theorem dX0_doHarvest_23 : decode cX0_doHarvest 23 = .ok (.getfield 22, 3) := dk_180 0 22 (dk_at dksX0_doHarvest_1 0 rfl rfl)
theorem dX0_doHarvest_26 : decode cX0_doHarvest 26 = .ok (.getfield 101, 3) := dk_180 0 101 (dk_at dksX0_doHarvest_1 3 rfl rfl)
theorem dX0_doHarvest_29 : decode cX0_doHarvest 29 = .ok (.iload_n 1, 1) := dk_27 (dk_at dksX0_doHarvest_1 6 rfl rfl)
theorem dX0_doHarvest_30 : decode cX0_doHarvest 30 = .ok (.aaload, 1) := dk_50 (dk_at dksX0_doHarvest_1 7 rfl rfl)
theorem dX0_doHarvest_31 : decode cX0_doHarvest 31 = .ok (.astore_n 3, 1) := dk_78 (dk_at dksX0_doHarvest_1 8 rfl rfl)
theorem dX0_doHarvest_32 : decode cX0_doHarvest 32 = .ok (.aload_n 3, 1) := dk_45 (dk_at dksX0_doHarvest_1 9 rfl rfl)
theorem dX0_doHarvest_33 : decode cX0_doHarvest 33 = .ok (.iload_n 2, 1) := dk_28 (dk_at dksX0_doHarvest_1 10 rfl rfl)
theorem dX0_doHarvest_34 : decode cX0_doHarvest 34 = .ok (.invokevirtual 127, 3) := dk_182 0 127 (dk_at dksX0_doHarvest_1 11 rfl rfl)
theorem dX0_doHarvest_37 : decode cX0_doHarvest 37 = .ok (.istore 4, 2) := dk_54 4 (dk_at dksX0_doHarvest_1 14 rfl rfl)
theorem dX0_doHarvest_39 : decode cX0_doHarvest 39 = .ok (.aload_n 3, 1) := dk_45 (dk_at dksX0_doHarvest_1 16 rfl rfl)
theorem dX0_doHarvest_40 : decode cX0_doHarvest 40 = .ok (.dup, 1) := dk_89 (dk_at dksX0_doHarvest_1 17 rfl rfl)
theorem dX0_doHarvest_41 : decode cX0_doHarvest 41 = .ok (.getfield 130, 3) := dk_180 0 130 (dk_at dksX0_doHarvest_1 18 rfl rfl)
theorem dX0_doHarvest_44 : decode cX0_doHarvest 44 = .ok (.iload_n 2, 1) := dk_28 (dk_at dksX0_doHarvest_1 21 rfl rfl)
theorem dX0_doHarvest_45 : decode cX0_doHarvest 45 = .ok (.iadd, 1) := dk_96 (dk_at dksX0_doHarvest_1 22 rfl rfl)
theorem dX0_doHarvest_46 : decode cX0_doHarvest 46 = .ok (.putfield 130, 3) := dk_181 0 130 (dk_at dksX0_doHarvest_2 0 rfl rfl)
theorem dX0_doHarvest_49 : decode cX0_doHarvest 49 = .ok (.iload 4, 2) := dk_21 4 (dk_at dksX0_doHarvest_2 3 rfl rfl)
theorem dX0_doHarvest_51 : decode cX0_doHarvest 51 = .ok (.ifCond .le 16, 3) := dk_158 0 16 (dk_at dksX0_doHarvest_2 5 rfl rfl)
theorem dX0_doHarvest_54 : decode cX0_doHarvest 54 = .ok (.aload_n 3, 1) := dk_45 (dk_at dksX0_doHarvest_2 8 rfl rfl)
theorem dX0_doHarvest_55 : decode cX0_doHarvest 55 = .ok (.aload_n 0, 1) := dk_42 (dk_at dksX0_doHarvest_2 9 rfl rfl)
theorem dX0_doHarvest_56 : decode cX0_doHarvest 56 = .ok (.getfield 22, 3) := dk_180 0 22 (dk_at dksX0_doHarvest_2 10 rfl rfl)
theorem dX0_doHarvest_59 : decode cX0_doHarvest 59 = .ok (.getfield 133, 3) := dk_180 0 133 (dk_at dksX0_doHarvest_2 13 rfl rfl)
theorem dX0_doHarvest_62 : decode cX0_doHarvest 62 = .ok (.iload 4, 2) := dk_21 4 (dk_at dksX0_doHarvest_2 16 rfl rfl)
theorem dX0_doHarvest_64 : decode cX0_doHarvest 64 = .ok (.invokevirtual 136, 3) := dk_182 0 136 (dk_at dksX0_doHarvest_2 18 rfl rfl)
theorem dX0_doHarvest_67 : decode cX0_doHarvest 67 = .ok (.iload 4, 2) := dk_21 4 (dk_at dksX0_doHarvest_2 21 rfl rfl)
theorem dX0_doHarvest_69 : decode cX0_doHarvest 69 = .ok (.ireturn, 1) := dk_172 (dk_at dksX0_doHarvest_2 23 rfl rfl)
def dkwX0_isParish_0 : List UInt8 := [27, 3, 42, 180, 0, 22, 180, 0, 79, 4, 100, 184, 0, 82, 172]
abbrev dktX0_isParish_0 : List UInt8 := dkwX0_isParish_0 ++ []
theorem dksX0_isParish_0 : cX0_isParish.data.toList.drop 0 = dktX0_isParish_0 := by decide +kernel
theorem dX0_isParish_0 : decode cX0_isParish 0 = .ok (.iload_n 1, 1) := dk_27 (dk_at dksX0_isParish_0 0 rfl rfl)
theorem dX0_isParish_1 : decode cX0_isParish 1 = .ok (.iconst 0, 1) := dk_3 (dk_at dksX0_isParish_0 1 rfl rfl)
theorem dX0_isParish_2 : decode cX0_isParish 2 = .ok (.aload_n 0, 1) := dk_42 (dk_at dksX0_isParish_0 2 rfl rfl)
theorem dX0_isParish_3 : decode cX0_isParish 3 = .ok (.getfield 22, 3) := dk_180 0 22 (dk_at dksX0_isParish_0 3 rfl rfl)
theorem dX0_isParish_6 : decode cX0_isParish 6 = .ok (.getfield 79, 3) := dk_180 0 79 (dk_at dksX0_isParish_0 6 rfl rfl)
theorem dX0_isParish_9 : decode cX0_isParish 9 = .ok (.iconst 1, 1) := dk_4 (dk_at dksX0_isParish_0 9 rfl rfl)
theorem dX0_isParish_10 : decode cX0_isParish 10 = .ok (.isub, 1) := dk_100 (dk_at dksX0_isParish_0 10 rfl rfl)
theorem dX0_isParish_11 : decode cX0_isParish 11 = .ok (.invokestatic 82, 3) := dk_184 0 82 (dk_at dksX0_isParish_0 11 rfl rfl)
theorem dX0_isParish_14 : decode cX0_isParish 14 = .ok (.ireturn, 1) := dk_172 (dk_at dksX0_isParish_0 14 rfl rfl)
def dkwX0_cart_1 : List UInt8 := [172]
abbrev dktX0_cart_1 : List UInt8 := dkwX0_cart_1 ++ []
def dkwX0_cart_0 : List UInt8 := [42, 182, 0, 110, 42, 42, 27, 28, 29, 182, 0, 175, 182, 0, 117, 172, 58, 4, 42, 25, 4, 182, 0, 120]
abbrev dktX0_cart_0 : List UInt8 := dkwX0_cart_0 ++ dktX0_cart_1
theorem dksX0_cart_0 : cX0_cart.data.toList.drop 0 = dktX0_cart_0 := by decide +kernel
theorem dksX0_cart_1 : cX0_cart.data.toList.drop 24 = dktX0_cart_1 := dk_seg dksX0_cart_0 24 rfl rfl
theorem dX0_cart_0 : decode cX0_cart 0 = .ok (.aload_n 0, 1) := dk_42 (dk_at dksX0_cart_0 0 rfl rfl)
theorem dX0_cart_1 : decode cX0_cart 1 = .ok (.invokevirtual 110, 3) := dk_182 0 110 (dk_at dksX0_cart_0 1 rfl rfl)
theorem dX0_cart_4 : decode cX0_cart 4 = .ok (.aload_n 0, 1) := dk_42 (dk_at dksX0_cart_0 4 rfl rfl)
theorem dX0_cart_5 : decode cX0_cart 5 = .ok (.aload_n 0, 1) := dk_42 (dk_at dksX0_cart_0 5 rfl rfl)
theorem dX0_cart_6 : decode cX0_cart 6 = .ok (.iload_n 1, 1) := dk_27 (dk_at dksX0_cart_0 6 rfl rfl)
theorem dX0_cart_7 : decode cX0_cart 7 = .ok (.iload_n 2, 1) := dk_28 (dk_at dksX0_cart_0 7 rfl rfl)
theorem dX0_cart_8 : decode cX0_cart 8 = .ok (.iload_n 3, 1) := dk_29 (dk_at dksX0_cart_0 8 rfl rfl)
theorem dX0_cart_9 : decode cX0_cart 9 = .ok (.invokevirtual 175, 3) := dk_182 0 175 (dk_at dksX0_cart_0 9 rfl rfl)
theorem dX0_cart_12 : decode cX0_cart 12 = .ok (.invokevirtual 117, 3) := dk_182 0 117 (dk_at dksX0_cart_0 12 rfl rfl)
theorem dX0_cart_15 : decode cX0_cart 15 = .ok (.ireturn, 1) := dk_172 (dk_at dksX0_cart_0 15 rfl rfl)
theorem dX0_cart_16 : decode cX0_cart 16 = .ok (.astore 4, 2) := dk_58 4 (dk_at dksX0_cart_0 16 rfl rfl)
theorem dX0_cart_18 : decode cX0_cart 18 = .ok (.aload_n 0, 1) := dk_42 (dk_at dksX0_cart_0 18 rfl rfl)
theorem dX0_cart_19 : decode cX0_cart 19 = .ok (.aload 4, 2) := dk_25 4 (dk_at dksX0_cart_0 19 rfl rfl)
theorem dX0_cart_21 : decode cX0_cart 21 = .ok (.invokevirtual 120, 3) := dk_182 0 120 (dk_at dksX0_cart_0 21 rfl rfl)
theorem dX0_cart_24 : decode cX0_cart 24 = .ok (.ireturn, 1) := dk_172 (dk_at dksX0_cart_1 0 rfl rfl)
def dkwX0_doCart_6 : List UInt8 := [25, 4, 28, 182, 0, 169, 25, 5, 27, 28, 182, 0, 172, 25, 5, 180, 0, 164, 172]
abbrev dktX0_doCart_6 : List UInt8 := dkwX0_doCart_6 ++ []
def dkwX0_doCart_5 : List UInt8 := [180, 0, 164, 100, 163, 0, 7, 4, 167, 0, 4, 3, 6, 16, 60, 25, 5, 180, 0, 164, 100, 184, 0, 97]
abbrev dktX0_doCart_5 : List UInt8 := dkwX0_doCart_5 ++ dktX0_doCart_6
def dkwX0_doCart_4 : List UInt8 := [187, 0, 9, 89, 16, 12, 25, 4, 180, 0, 158, 183, 0, 11, 183, 0, 161, 191, 28, 16, 60, 25, 5]
abbrev dktX0_doCart_4 : List UInt8 := dkwX0_doCart_4 ++ dktX0_doCart_5
def dkwX0_doCart_3 : List UInt8 := [187, 0, 9, 89, 5, 25, 4, 182, 0, 154, 25, 4, 180, 0, 158, 154, 0, 7, 1, 167, 0, 17]
abbrev dktX0_doCart_3 : List UInt8 := dkwX0_doCart_3 ++ dktX0_doCart_4
def dkwX0_doCart_2 : List UInt8 := [58, 4, 42, 180, 0, 22, 180, 0, 150, 29, 50, 58, 5, 25, 4, 182, 0, 154, 28, 162, 0, 43]
abbrev dktX0_doCart_2 : List UInt8 := dkwX0_doCart_2 ++ dktX0_doCart_3
def dkwX0_doCart_1 : List UInt8 := [184, 0, 93, 28, 4, 16, 60, 184, 0, 82, 16, 254, 184, 0, 93, 42, 180, 0, 22, 180, 0, 101, 27, 50]
abbrev dktX0_doCart_1 : List UInt8 := dkwX0_doCart_1 ++ dktX0_doCart_2
def dkwX0_doCart_0 : List UInt8 := [5, 188, 4, 89, 3, 42, 27, 182, 0, 124, 84, 89, 4, 29, 184, 0, 143, 84, 184, 0, 146, 2]
abbrev dktX0_doCart_0 : List UInt8 := dkwX0_doCart_0 ++ dktX0_doCart_1
theorem dksX0_doCart_0 : cX0_doCart.data.toList.drop 0 = dktX0_doCart_0 := by decide +kernel
theorem dksX0_doCart_1 : cX0_doCart.data.toList.drop 22 = dktX0_doCart_1 := dk_seg dksX0_doCart_0 22 rfl rfl
theorem dksX0_doCart_2 : cX0_doCart.data.toList.drop 46 = dktX0_doCart_2 := dk_seg dksX0_doCart_1 24 rfl rfl
theorem dksX0_doCart_3 : cX0_doCart.data.toList.drop 68 = dktX0_doCart_3 := dk_seg dksX0_doCart_2 22 rfl rfl
theorem dksX0_doCart_4 : cX0_doCart.data.toList.drop 90 = dktX0_doCart_4 := dk_seg dksX0_doCart_3 22 rfl rfl
theorem dksX0_doCart_5 : cX0_doCart.data.toList.drop 113 = dktX0_doCart_5 := dk_seg dksX0_doCart_4 23 rfl rfl
theorem dksX0_doCart_6 : cX0_doCart.data.toList.drop 137 = dktX0_doCart_6 := dk_seg dksX0_doCart_5 24 rfl rfl
theorem dX0_doCart_0 : decode cX0_doCart 0 = .ok (.iconst 2, 1) := dk_5 (dk_at dksX0_doCart_0 0 rfl rfl)
theorem dX0_doCart_1 : decode cX0_doCart 1 = .ok (.newarray .boolean, 2) := dk_188_4 (dk_at dksX0_doCart_0 1 rfl rfl)
theorem dX0_doCart_3 : decode cX0_doCart 3 = .ok (.dup, 1) := dk_89 (dk_at dksX0_doCart_0 3 rfl rfl)
theorem dX0_doCart_4 : decode cX0_doCart 4 = .ok (.iconst 0, 1) := dk_3 (dk_at dksX0_doCart_0 4 rfl rfl)
theorem dX0_doCart_5 : decode cX0_doCart 5 = .ok (.aload_n 0, 1) := dk_42 (dk_at dksX0_doCart_0 5 rfl rfl)
theorem dX0_doCart_6 : decode cX0_doCart 6 = .ok (.iload_n 1, 1) := dk_27 (dk_at dksX0_doCart_0 6 rfl rfl)
theorem dX0_doCart_7 : decode cX0_doCart 7 = .ok (.invokevirtual 124, 3) := dk_182 0 124 (dk_at dksX0_doCart_0 7 rfl rfl)
theorem dX0_doCart_10 : decode cX0_doCart 10 = .ok (.bastore, 1) := dk_84 (dk_at dksX0_doCart_0 10 rfl rfl)
theorem dX0_doCart_11 : decode cX0_doCart 11 = .ok (.dup, 1) := dk_89 (dk_at dksX0_doCart_0 11 rfl rfl)
theorem dX0_doCart_12 : decode cX0_doCart 12 = .ok (.iconst 1, 1) := dk_4 (dk_at dksX0_doCart_0 12 rfl rfl)
theorem dX0_doCart_13 : decode cX0_doCart 13 = .ok (.iload_n 3, 1) := dk_29 (dk_at dksX0_doCart_0 13 rfl rfl)
theorem dX0_doCart_14 : decode cX0_doCart 14 = .ok (.invokestatic 143, 3) := dk_184 0 143 (dk_at dksX0_doCart_0 14 rfl rfl)
theorem dX0_doCart_17 : decode cX0_doCart 17 = .ok (.bastore, 1) := dk_84 (dk_at dksX0_doCart_0 17 rfl rfl)
theorem dX0_doCart_18 : decode cX0_doCart 18 = .ok (.invokestatic 146, 3) := dk_184 0 146 (dk_at dksX0_doCart_0 18 rfl rfl)
theorem dX0_doCart_21 : decode cX0_doCart 21 = .ok (.iconst (-1), 1) := dk_2 (dk_at dksX0_doCart_0 21 rfl rfl)
theorem dX0_doCart_22 : decode cX0_doCart 22 = .ok (.invokestatic 93, 3) := dk_184 0 93 (dk_at dksX0_doCart_1 0 rfl rfl)
theorem dX0_doCart_25 : decode cX0_doCart 25 = .ok (.iload_n 2, 1) := dk_28 (dk_at dksX0_doCart_1 3 rfl rfl)
theorem dX0_doCart_26 : decode cX0_doCart 26 = .ok (.iconst 1, 1) := dk_4 (dk_at dksX0_doCart_1 4 rfl rfl)
theorem dX0_doCart_27 : decode cX0_doCart 27 = .ok (.bipush 60, 2) := dk_16 60 (dk_at dksX0_doCart_1 5 rfl rfl)
theorem dX0_doCart_29 : decode cX0_doCart 29 = .ok (.invokestatic 82, 3) := dk_184 0 82 (dk_at dksX0_doCart_1 7 rfl rfl)
theorem dX0_doCart_32 : decode cX0_doCart 32 = .ok (.bipush (-2), 2) := dk_16 254 (dk_at dksX0_doCart_1 10 rfl rfl)
theorem dX0_doCart_34 : decode cX0_doCart 34 = .ok (.invokestatic 93, 3) := dk_184 0 93 (dk_at dksX0_doCart_1 12 rfl rfl)
theorem dX0_doCart_37 : decode cX0_doCart 37 = .ok (.aload_n 0, 1) := dk_42 (dk_at dksX0_doCart_1 15 rfl rfl)
theorem dX0_doCart_38 : decode cX0_doCart 38 = .ok (.getfield 22, 3) := dk_180 0 22 (dk_at dksX0_doCart_1 16 rfl rfl)
theorem dX0_doCart_41 : decode cX0_doCart 41 = .ok (.getfield 101, 3) := dk_180 0 101 (dk_at dksX0_doCart_1 19 rfl rfl)
theorem dX0_doCart_44 : decode cX0_doCart 44 = .ok (.iload_n 1, 1) := dk_27 (dk_at dksX0_doCart_1 22 rfl rfl)
theorem dX0_doCart_45 : decode cX0_doCart 45 = .ok (.aaload, 1) := dk_50 (dk_at dksX0_doCart_1 23 rfl rfl)
theorem dX0_doCart_46 : decode cX0_doCart 46 = .ok (.astore 4, 2) := dk_58 4 (dk_at dksX0_doCart_2 0 rfl rfl)
theorem dX0_doCart_48 : decode cX0_doCart 48 = .ok (.aload_n 0, 1) := dk_42 (dk_at dksX0_doCart_2 2 rfl rfl)
theorem dX0_doCart_49 : decode cX0_doCart 49 = .ok (.getfield 22, 3) := dk_180 0 22 (dk_at dksX0_doCart_2 3 rfl rfl)
theorem dX0_doCart_52 : decode cX0_doCart 52 = .ok (.getfield 150, 3) := dk_180 0 150 (dk_at dksX0_doCart_2 6 rfl rfl)
theorem dX0_doCart_55 : decode cX0_doCart 55 = .ok (.iload_n 3, 1) := dk_29 (dk_at dksX0_doCart_2 9 rfl rfl)
theorem dX0_doCart_56 : decode cX0_doCart 56 = .ok (.aaload, 1) := dk_50 (dk_at dksX0_doCart_2 10 rfl rfl)
theorem dX0_doCart_57 : decode cX0_doCart 57 = .ok (.astore 5, 2) := dk_58 5 (dk_at dksX0_doCart_2 11 rfl rfl)
theorem dX0_doCart_59 : decode cX0_doCart 59 = .ok (.aload 4, 2) := dk_25 4 (dk_at dksX0_doCart_2 13 rfl rfl)
theorem dX0_doCart_61 : decode cX0_doCart 61 = .ok (.invokevirtual 154, 3) := dk_182 0 154 (dk_at dksX0_doCart_2 15 rfl rfl)
theorem dX0_doCart_64 : decode cX0_doCart 64 = .ok (.iload_n 2, 1) := dk_28 (dk_at dksX0_doCart_2 18 rfl rfl)
theorem dX0_doCart_65 : decode cX0_doCart 65 = .ok (.if_icmp .ge 43, 3) := dk_162 0 43 (dk_at dksX0_doCart_2 19 rfl rfl)
theorem dX0_doCart_68 : decode cX0_doCart 68 = .ok (.new 9, 3) := dk_187 0 9 (dk_at dksX0_doCart_3 0 rfl rfl)
theorem dX0_doCart_71 : decode cX0_doCart 71 = .ok (.dup, 1) := dk_89 (dk_at dksX0_doCart_3 3 rfl rfl)
theorem dX0_doCart_72 : decode cX0_doCart 72 = .ok (.iconst 2, 1) := dk_5 (dk_at dksX0_doCart_3 4 rfl rfl)
theorem dX0_doCart_73 : decode cX0_doCart 73 = .ok (.aload 4, 2) := dk_25 4 (dk_at dksX0_doCart_3 5 rfl rfl)
theorem dX0_doCart_75 : decode cX0_doCart 75 = .ok (.invokevirtual 154, 3) := dk_182 0 154 (dk_at dksX0_doCart_3 7 rfl rfl)
theorem dX0_doCart_78 : decode cX0_doCart 78 = .ok (.aload 4, 2) := dk_25 4 (dk_at dksX0_doCart_3 10 rfl rfl)
theorem dX0_doCart_80 : decode cX0_doCart 80 = .ok (.getfield 158, 3) := dk_180 0 158 (dk_at dksX0_doCart_3 12 rfl rfl)
theorem dX0_doCart_83 : decode cX0_doCart 83 = .ok (.ifCond .ne 7, 3) := dk_154 0 7 (dk_at dksX0_doCart_3 15 rfl rfl)
theorem dX0_doCart_86 : decode cX0_doCart 86 = .ok (.aconst_null, 1) := dk_1 (dk_at dksX0_doCart_3 18 rfl rfl)
theorem dX0_doCart_87 : decode cX0_doCart 87 = .ok (.goto 17, 3) := dk_167 0 17 (dk_at dksX0_doCart_3 19 rfl rfl)
theorem dX0_doCart_90 : decode cX0_doCart 90 = .ok (.new 9, 3) := dk_187 0 9 (dk_at dksX0_doCart_4 0 rfl rfl)
theorem dX0_doCart_93 : decode cX0_doCart 93 = .ok (.dup, 1) := dk_89 (dk_at dksX0_doCart_4 3 rfl rfl)
theorem dX0_doCart_94 : decode cX0_doCart 94 = .ok (.bipush 12, 2) := dk_16 12 (dk_at dksX0_doCart_4 4 rfl rfl)
theorem dX0_doCart_96 : decode cX0_doCart 96 = .ok (.aload 4, 2) := dk_25 4 (dk_at dksX0_doCart_4 6 rfl rfl)
theorem dX0_doCart_98 : decode cX0_doCart 98 = .ok (.getfield 158, 3) := dk_180 0 158 (dk_at dksX0_doCart_4 8 rfl rfl)
theorem dX0_doCart_101 : decode cX0_doCart 101 = .ok (.invokespecial 11, 3) := dk_183 0 11 (dk_at dksX0_doCart_4 11 rfl rfl)
theorem dX0_doCart_104 : decode cX0_doCart 104 = .ok (.invokespecial 161, 3) := dk_183 0 161 (dk_at dksX0_doCart_4 14 rfl rfl)
theorem dX0_doCart_107 : decode cX0_doCart 107 = .ok (.athrow, 1) := dk_191 (dk_at dksX0_doCart_4 17 rfl rfl)
theorem dX0_doCart_108 : decode cX0_doCart 108 = .ok (.iload_n 2, 1) := dk_28 (dk_at dksX0_doCart_4 18 rfl rfl)
theorem dX0_doCart_109 : decode cX0_doCart 109 = .ok (.bipush 60, 2) := dk_16 60 (dk_at dksX0_doCart_4 19 rfl rfl)
theorem dX0_doCart_111 : decode cX0_doCart 111 = .ok (.aload 5, 2) := dk_25 5 (dk_at dksX0_doCart_4 21 rfl rfl)
theorem dX0_doCart_113 : decode cX0_doCart 113 = .ok (.getfield 164, 3) := dk_180 0 164 (dk_at dksX0_doCart_5 0 rfl rfl)
theorem dX0_doCart_116 : decode cX0_doCart 116 = .ok (.isub, 1) := dk_100 (dk_at dksX0_doCart_5 3 rfl rfl)
theorem dX0_doCart_117 : decode cX0_doCart 117 = .ok (.if_icmp .gt 7, 3) := dk_163 0 7 (dk_at dksX0_doCart_5 4 rfl rfl)
theorem dX0_doCart_120 : decode cX0_doCart 120 = .ok (.iconst 1, 1) := dk_4 (dk_at dksX0_doCart_5 7 rfl rfl)
theorem dX0_doCart_121 : decode cX0_doCart 121 = .ok (.goto 4, 3) := dk_167 0 4 (dk_at dksX0_doCart_5 8 rfl rfl)
theorem dX0_doCart_124 : decode cX0_doCart 124 = .ok (.iconst 0, 1) := dk_3 (dk_at dksX0_doCart_5 11 rfl rfl)
theorem dX0_doCart_125 : decode cX0_doCart 125 = .ok (.iconst 3, 1) := dk_6 (dk_at dksX0_doCart_5 12 rfl rfl)
theorem dX0_doCart_126 : decode cX0_doCart 126 = .ok (.bipush 60, 2) := dk_16 60 (dk_at dksX0_doCart_5 13 rfl rfl)
theorem dX0_doCart_128 : decode cX0_doCart 128 = .ok (.aload 5, 2) := dk_25 5 (dk_at dksX0_doCart_5 15 rfl rfl)
theorem dX0_doCart_130 : decode cX0_doCart 130 = .ok (.getfield 164, 3) := dk_180 0 164 (dk_at dksX0_doCart_5 17 rfl rfl)
theorem dX0_doCart_133 : decode cX0_doCart 133 = .ok (.isub, 1) := dk_100 (dk_at dksX0_doCart_5 20 rfl rfl)
theorem dX0_doCart_134 : decode cX0_doCart 134 = .ok (.invokestatic 97, 3) := dk_184 0 97 (dk_at dksX0_doCart_5 21 rfl rfl)
theorem dX0_doCart_137 : decode cX0_doCart 137 = .ok (.aload 4, 2) := dk_25 4 (dk_at dksX0_doCart_6 0 rfl rfl)
theorem dX0_doCart_139 : decode cX0_doCart 139 = .ok (.iload_n 2, 1) := dk_28 (dk_at dksX0_doCart_6 2 rfl rfl)
theorem dX0_doCart_140 : decode cX0_doCart 140 = .ok (.invokevirtual 169, 3) := dk_182 0 169 (dk_at dksX0_doCart_6 3 rfl rfl)
theorem dX0_doCart_143 : decode cX0_doCart 143 = .ok (.aload 5, 2) := dk_25 5 (dk_at dksX0_doCart_6 6 rfl rfl)
theorem dX0_doCart_145 : decode cX0_doCart 145 = .ok (.iload_n 1, 1) := dk_27 (dk_at dksX0_doCart_6 8 rfl rfl)
theorem dX0_doCart_146 : decode cX0_doCart 146 = .ok (.iload_n 2, 1) := dk_28 (dk_at dksX0_doCart_6 9 rfl rfl)
theorem dX0_doCart_147 : decode cX0_doCart 147 = .ok (.invokevirtual 172, 3) := dk_182 0 172 (dk_at dksX0_doCart_6 10 rfl rfl)
theorem dX0_doCart_150 : decode cX0_doCart 150 = .ok (.aload 5, 2) := dk_25 5 (dk_at dksX0_doCart_6 13 rfl rfl)
theorem dX0_doCart_152 : decode cX0_doCart 152 = .ok (.getfield 164, 3) := dk_180 0 164 (dk_at dksX0_doCart_6 15 rfl rfl)
theorem dX0_doCart_155 : decode cX0_doCart 155 = .ok (.ireturn, 1) := dk_172 (dk_at dksX0_doCart_6 18 rfl rfl)
def dkwX0_isBay_0 : List UInt8 := [26, 3, 6, 184, 0, 82, 172]
abbrev dktX0_isBay_0 : List UInt8 := dkwX0_isBay_0 ++ []
theorem dksX0_isBay_0 : cX0_isBay.data.toList.drop 0 = dktX0_isBay_0 := by decide +kernel
theorem dX0_isBay_0 : decode cX0_isBay 0 = .ok (.iload_n 0, 1) := dk_26 (dk_at dksX0_isBay_0 0 rfl rfl)
theorem dX0_isBay_1 : decode cX0_isBay 1 = .ok (.iconst 0, 1) := dk_3 (dk_at dksX0_isBay_0 1 rfl rfl)
theorem dX0_isBay_2 : decode cX0_isBay 2 = .ok (.iconst 3, 1) := dk_6 (dk_at dksX0_isBay_0 2 rfl rfl)
theorem dX0_isBay_3 : decode cX0_isBay 3 = .ok (.invokestatic 82, 3) := dk_184 0 82 (dk_at dksX0_isBay_0 3 rfl rfl)
theorem dX0_isBay_6 : decode cX0_isBay 6 = .ok (.ireturn, 1) := dk_172 (dk_at dksX0_isBay_0 6 rfl rfl)
def dkwX0_all_1 : List UInt8 := [132, 3, 1, 167, 255, 236, 4, 172]
abbrev dktX0_all_1 : List UInt8 := dkwX0_all_1 ++ []
def dkwX0_all_0 : List UInt8 := [42, 76, 43, 190, 61, 3, 62, 29, 28, 162, 0, 21, 43, 29, 51, 54, 4, 21, 4, 154, 0, 5, 3, 172]
abbrev dktX0_all_0 : List UInt8 := dkwX0_all_0 ++ dktX0_all_1
theorem dksX0_all_0 : cX0_all.data.toList.drop 0 = dktX0_all_0 := by decide +kernel
theorem dksX0_all_1 : cX0_all.data.toList.drop 24 = dktX0_all_1 := dk_seg dksX0_all_0 24 rfl rfl
theorem dX0_all_0 : decode cX0_all 0 = .ok (.aload_n 0, 1) := dk_42 (dk_at dksX0_all_0 0 rfl rfl)
theorem dX0_all_1 : decode cX0_all 1 = .ok (.astore_n 1, 1) := dk_76 (dk_at dksX0_all_0 1 rfl rfl)
theorem dX0_all_2 : decode cX0_all 2 = .ok (.aload_n 1, 1) := dk_43 (dk_at dksX0_all_0 2 rfl rfl)
theorem dX0_all_3 : decode cX0_all 3 = .ok (.arraylength, 1) := dk_190 (dk_at dksX0_all_0 3 rfl rfl)
theorem dX0_all_4 : decode cX0_all 4 = .ok (.istore_n 2, 1) := dk_61 (dk_at dksX0_all_0 4 rfl rfl)
theorem dX0_all_5 : decode cX0_all 5 = .ok (.iconst 0, 1) := dk_3 (dk_at dksX0_all_0 5 rfl rfl)
theorem dX0_all_6 : decode cX0_all 6 = .ok (.istore_n 3, 1) := dk_62 (dk_at dksX0_all_0 6 rfl rfl)
theorem dX0_all_7 : decode cX0_all 7 = .ok (.iload_n 3, 1) := dk_29 (dk_at dksX0_all_0 7 rfl rfl)
theorem dX0_all_8 : decode cX0_all 8 = .ok (.iload_n 2, 1) := dk_28 (dk_at dksX0_all_0 8 rfl rfl)
theorem dX0_all_9 : decode cX0_all 9 = .ok (.if_icmp .ge 21, 3) := dk_162 0 21 (dk_at dksX0_all_0 9 rfl rfl)
theorem dX0_all_12 : decode cX0_all 12 = .ok (.aload_n 1, 1) := dk_43 (dk_at dksX0_all_0 12 rfl rfl)
theorem dX0_all_13 : decode cX0_all 13 = .ok (.iload_n 3, 1) := dk_29 (dk_at dksX0_all_0 13 rfl rfl)
theorem dX0_all_14 : decode cX0_all 14 = .ok (.baload, 1) := dk_51 (dk_at dksX0_all_0 14 rfl rfl)
theorem dX0_all_15 : decode cX0_all 15 = .ok (.istore 4, 2) := dk_54 4 (dk_at dksX0_all_0 15 rfl rfl)
theorem dX0_all_17 : decode cX0_all 17 = .ok (.iload 4, 2) := dk_21 4 (dk_at dksX0_all_0 17 rfl rfl)
theorem dX0_all_19 : decode cX0_all 19 = .ok (.ifCond .ne 5, 3) := dk_154 0 5 (dk_at dksX0_all_0 19 rfl rfl)
theorem dX0_all_22 : decode cX0_all 22 = .ok (.iconst 0, 1) := dk_3 (dk_at dksX0_all_0 22 rfl rfl)
theorem dX0_all_23 : decode cX0_all 23 = .ok (.ireturn, 1) := dk_172 (dk_at dksX0_all_0 23 rfl rfl)
theorem dX0_all_24 : decode cX0_all 24 = .ok (.iinc 3 1, 3) := dk_132 3 1 (dk_at dksX0_all_1 0 rfl rfl)
theorem dX0_all_27 : decode cX0_all 27 = .ok (.goto (-20), 3) := dk_167 255 236 (dk_at dksX0_all_1 3 rfl rfl)
theorem dX0_all_30 : decode cX0_all 30 = .ok (.iconst 1, 1) := dk_4 (dk_at dksX0_all_1 6 rfl rfl)
theorem dX0_all_31 : decode cX0_all 31 = .ok (.ireturn, 1) := dk_172 (dk_at dksX0_all_1 7 rfl rfl)
def dkwX0_thresh_1 : List UInt8 := [172]
abbrev dktX0_thresh_1 : List UInt8 := dkwX0_thresh_1 ++ []
def dkwX0_thresh_0 : List UInt8 := [42, 182, 0, 110, 42, 42, 27, 28, 29, 182, 0, 217, 182, 0, 117, 172, 58, 4, 42, 25, 4, 182, 0, 120]
abbrev dktX0_thresh_0 : List UInt8 := dkwX0_thresh_0 ++ dktX0_thresh_1
theorem dksX0_thresh_0 : cX0_thresh.data.toList.drop 0 = dktX0_thresh_0 := by decide +kernel
theorem dksX0_thresh_1 : cX0_thresh.data.toList.drop 24 = dktX0_thresh_1 := dk_seg dksX0_thresh_0 24 rfl rfl
theorem dX0_thresh_0 : decode cX0_thresh 0 = .ok (.aload_n 0, 1) := dk_42 (dk_at dksX0_thresh_0 0 rfl rfl)
theorem dX0_thresh_1 : decode cX0_thresh 1 = .ok (.invokevirtual 110, 3) := dk_182 0 110 (dk_at dksX0_thresh_0 1 rfl rfl)
theorem dX0_thresh_4 : decode cX0_thresh 4 = .ok (.aload_n 0, 1) := dk_42 (dk_at dksX0_thresh_0 4 rfl rfl)
theorem dX0_thresh_5 : decode cX0_thresh 5 = .ok (.aload_n 0, 1) := dk_42 (dk_at dksX0_thresh_0 5 rfl rfl)
theorem dX0_thresh_6 : decode cX0_thresh 6 = .ok (.iload_n 1, 1) := dk_27 (dk_at dksX0_thresh_0 6 rfl rfl)
theorem dX0_thresh_7 : decode cX0_thresh 7 = .ok (.iload_n 2, 1) := dk_28 (dk_at dksX0_thresh_0 7 rfl rfl)
theorem dX0_thresh_8 : decode cX0_thresh 8 = .ok (.iload_n 3, 1) := dk_29 (dk_at dksX0_thresh_0 8 rfl rfl)
theorem dX0_thresh_9 : decode cX0_thresh 9 = .ok (.invokevirtual 217, 3) := dk_182 0 217 (dk_at dksX0_thresh_0 9 rfl rfl)
theorem dX0_thresh_12 : decode cX0_thresh 12 = .ok (.invokevirtual 117, 3) := dk_182 0 117 (dk_at dksX0_thresh_0 12 rfl rfl)
theorem dX0_thresh_15 : decode cX0_thresh 15 = .ok (.ireturn, 1) := dk_172 (dk_at dksX0_thresh_0 15 rfl rfl)
theorem dX0_thresh_16 : decode cX0_thresh 16 = .ok (.astore 4, 2) := dk_58 4 (dk_at dksX0_thresh_0 16 rfl rfl)
theorem dX0_thresh_18 : decode cX0_thresh 18 = .ok (.aload_n 0, 1) := dk_42 (dk_at dksX0_thresh_0 18 rfl rfl)
theorem dX0_thresh_19 : decode cX0_thresh 19 = .ok (.aload 4, 2) := dk_25 4 (dk_at dksX0_thresh_0 19 rfl rfl)
theorem dX0_thresh_21 : decode cX0_thresh 21 = .ok (.invokevirtual 120, 3) := dk_182 0 120 (dk_at dksX0_thresh_0 21 rfl rfl)
theorem dX0_thresh_24 : decode cX0_thresh 24 = .ok (.ireturn, 1) := dk_172 (dk_at dksX0_thresh_1 0 rfl rfl)
def dkwX0_doThresh_10 : List UInt8 := [180, 0, 210, 172]
abbrev dktX0_doThresh_10 : List UInt8 := dkwX0_doThresh_10 ++ []
def dkwX0_doThresh_9 : List UInt8 := [167, 255, 240, 25, 4, 21, 7, 181, 0, 213, 25, 4, 89, 180, 0, 210, 29, 96, 181, 0, 210, 25, 4]
abbrev dktX0_doThresh_9 : List UInt8 := dkwX0_doThresh_9 ++ dktX0_doThresh_10
def dkwX0_doThresh_8 : List UInt8 := [184, 0, 97, 3, 54, 8, 21, 8, 29, 162, 0, 16, 25, 5, 182, 0, 214, 54, 9, 132, 8, 1]
abbrev dktX0_doThresh_8 : List UInt8 := dkwX0_doThresh_8 ++ dktX0_doThresh_9
def dkwX0_doThresh_7 : List UInt8 := [180, 0, 210, 100, 163, 0, 7, 4, 167, 0, 4, 3, 16, 6, 16, 20, 25, 4, 180, 0, 210, 100]
abbrev dktX0_doThresh_7 : List UInt8 := dkwX0_doThresh_7 ++ dktX0_doThresh_8
def dkwX0_doThresh_6 : List UInt8 := [160, 0, 7, 4, 167, 0, 4, 3, 8, 25, 4, 180, 0, 213, 184, 0, 97, 29, 16, 20, 25, 4]
abbrev dktX0_doThresh_6 : List UInt8 := dkwX0_doThresh_6 ++ dktX0_doThresh_7
def dkwX0_doThresh_5 : List UInt8 := [100, 50, 182, 0, 194, 54, 7, 25, 4, 180, 0, 210, 153, 0, 13, 25, 4, 180, 0, 213, 21, 7]
abbrev dktX0_doThresh_5 : List UInt8 := dkwX0_doThresh_5 ++ dktX0_doThresh_6
def dkwX0_doThresh_4 : List UInt8 := [4, 167, 0, 4, 3, 16, 7, 21, 6, 184, 0, 97, 42, 25, 5, 180, 0, 187, 25, 5, 180, 0, 191, 4]
abbrev dktX0_doThresh_4 : List UInt8 := dkwX0_doThresh_4 ++ dktX0_doThresh_5
def dkwX0_doThresh_3 : List UInt8 := [7, 25, 5, 180, 0, 164, 184, 0, 97, 42, 25, 5, 29, 182, 0, 206, 54, 6, 21, 6, 2, 160, 0, 7]
abbrev dktX0_doThresh_3 : List UInt8 := dkwX0_doThresh_3 ++ dktX0_doThresh_4
def dkwX0_doThresh_2 : List UInt8 := [180, 0, 22, 180, 0, 150, 28, 50, 58, 5, 25, 5, 180, 0, 164, 29, 161, 0, 7, 4, 167, 0, 4, 3]
abbrev dktX0_doThresh_2 : List UInt8 := dkwX0_doThresh_2 ++ dktX0_doThresh_3
def dkwX0_doThresh_1 : List UInt8 := [29, 4, 16, 20, 184, 0, 82, 16, 254, 184, 0, 93, 42, 180, 0, 22, 180, 0, 202, 27, 50, 58, 4, 42]
abbrev dktX0_doThresh_1 : List UInt8 := dkwX0_doThresh_1 ++ dktX0_doThresh_2
def dkwX0_doThresh_0 : List UInt8 := [5, 188, 4, 89, 3, 27, 184, 0, 199, 84, 89, 4, 28, 184, 0, 143, 84, 184, 0, 146, 2, 184, 0, 93]
abbrev dktX0_doThresh_0 : List UInt8 := dkwX0_doThresh_0 ++ dktX0_doThresh_1
theorem dksX0_doThresh_0 : cX0_doThresh.data.toList.drop 0 = dktX0_doThresh_0 := by decide +kernel
theorem dksX0_doThresh_1 : cX0_doThresh.data.toList.drop 24 = dktX0_doThresh_1 := dk_seg dksX0_doThresh_0 24 rfl rfl
theorem dksX0_doThresh_2 : cX0_doThresh.data.toList.drop 48 = dktX0_doThresh_2 := dk_seg dksX0_doThresh_1 24 rfl rfl
theorem dksX0_doThresh_3 : cX0_doThresh.data.toList.drop 72 = dktX0_doThresh_3 := dk_seg dksX0_doThresh_2 24 rfl rfl
theorem dksX0_doThresh_4 : cX0_doThresh.data.toList.drop 96 = dktX0_doThresh_4 := dk_seg dksX0_doThresh_3 24 rfl rfl
theorem dksX0_doThresh_5 : cX0_doThresh.data.toList.drop 120 = dktX0_doThresh_5 := dk_seg dksX0_doThresh_4 24 rfl rfl
theorem dksX0_doThresh_6 : cX0_doThresh.data.toList.drop 142 = dktX0_doThresh_6 := dk_seg dksX0_doThresh_5 22 rfl rfl
theorem dksX0_doThresh_7 : cX0_doThresh.data.toList.drop 164 = dktX0_doThresh_7 := dk_seg dksX0_doThresh_6 22 rfl rfl
theorem dksX0_doThresh_8 : cX0_doThresh.data.toList.drop 186 = dktX0_doThresh_8 := dk_seg dksX0_doThresh_7 22 rfl rfl
theorem dksX0_doThresh_9 : cX0_doThresh.data.toList.drop 208 = dktX0_doThresh_9 := dk_seg dksX0_doThresh_8 22 rfl rfl
theorem dksX0_doThresh_10 : cX0_doThresh.data.toList.drop 231 = dktX0_doThresh_10 := dk_seg dksX0_doThresh_9 23 rfl rfl
theorem dX0_doThresh_0 : decode cX0_doThresh 0 = .ok (.iconst 2, 1) := dk_5 (dk_at dksX0_doThresh_0 0 rfl rfl)
theorem dX0_doThresh_1 : decode cX0_doThresh 1 = .ok (.newarray .boolean, 2) := dk_188_4 (dk_at dksX0_doThresh_0 1 rfl rfl)
theorem dX0_doThresh_3 : decode cX0_doThresh 3 = .ok (.dup, 1) := dk_89 (dk_at dksX0_doThresh_0 3 rfl rfl)
theorem dX0_doThresh_4 : decode cX0_doThresh 4 = .ok (.iconst 0, 1) := dk_3 (dk_at dksX0_doThresh_0 4 rfl rfl)
theorem dX0_doThresh_5 : decode cX0_doThresh 5 = .ok (.iload_n 1, 1) := dk_27 (dk_at dksX0_doThresh_0 5 rfl rfl)
theorem dX0_doThresh_6 : decode cX0_doThresh 6 = .ok (.invokestatic 199, 3) := dk_184 0 199 (dk_at dksX0_doThresh_0 6 rfl rfl)
theorem dX0_doThresh_9 : decode cX0_doThresh 9 = .ok (.bastore, 1) := dk_84 (dk_at dksX0_doThresh_0 9 rfl rfl)
theorem dX0_doThresh_10 : decode cX0_doThresh 10 = .ok (.dup, 1) := dk_89 (dk_at dksX0_doThresh_0 10 rfl rfl)
theorem dX0_doThresh_11 : decode cX0_doThresh 11 = .ok (.iconst 1, 1) := dk_4 (dk_at dksX0_doThresh_0 11 rfl rfl)
theorem dX0_doThresh_12 : decode cX0_doThresh 12 = .ok (.iload_n 2, 1) := dk_28 (dk_at dksX0_doThresh_0 12 rfl rfl)
theorem dX0_doThresh_13 : decode cX0_doThresh 13 = .ok (.invokestatic 143, 3) := dk_184 0 143 (dk_at dksX0_doThresh_0 13 rfl rfl)
theorem dX0_doThresh_16 : decode cX0_doThresh 16 = .ok (.bastore, 1) := dk_84 (dk_at dksX0_doThresh_0 16 rfl rfl)
theorem dX0_doThresh_17 : decode cX0_doThresh 17 = .ok (.invokestatic 146, 3) := dk_184 0 146 (dk_at dksX0_doThresh_0 17 rfl rfl)
theorem dX0_doThresh_20 : decode cX0_doThresh 20 = .ok (.iconst (-1), 1) := dk_2 (dk_at dksX0_doThresh_0 20 rfl rfl)
theorem dX0_doThresh_21 : decode cX0_doThresh 21 = .ok (.invokestatic 93, 3) := dk_184 0 93 (dk_at dksX0_doThresh_0 21 rfl rfl)
theorem dX0_doThresh_24 : decode cX0_doThresh 24 = .ok (.iload_n 3, 1) := dk_29 (dk_at dksX0_doThresh_1 0 rfl rfl)
theorem dX0_doThresh_25 : decode cX0_doThresh 25 = .ok (.iconst 1, 1) := dk_4 (dk_at dksX0_doThresh_1 1 rfl rfl)
theorem dX0_doThresh_26 : decode cX0_doThresh 26 = .ok (.bipush 20, 2) := dk_16 20 (dk_at dksX0_doThresh_1 2 rfl rfl)
theorem dX0_doThresh_28 : decode cX0_doThresh 28 = .ok (.invokestatic 82, 3) := dk_184 0 82 (dk_at dksX0_doThresh_1 4 rfl rfl)
theorem dX0_doThresh_31 : decode cX0_doThresh 31 = .ok (.bipush (-2), 2) := dk_16 254 (dk_at dksX0_doThresh_1 7 rfl rfl)
theorem dX0_doThresh_33 : decode cX0_doThresh 33 = .ok (.invokestatic 93, 3) := dk_184 0 93 (dk_at dksX0_doThresh_1 9 rfl rfl)
theorem dX0_doThresh_36 : decode cX0_doThresh 36 = .ok (.aload_n 0, 1) := dk_42 (dk_at dksX0_doThresh_1 12 rfl rfl)
theorem dX0_doThresh_37 : decode cX0_doThresh 37 = .ok (.getfield 22, 3) := dk_180 0 22 (dk_at dksX0_doThresh_1 13 rfl rfl)
theorem dX0_doThresh_40 : decode cX0_doThresh 40 = .ok (.getfield 202, 3) := dk_180 0 202 (dk_at dksX0_doThresh_1 16 rfl rfl)
theorem dX0_doThresh_43 : decode cX0_doThresh 43 = .ok (.iload_n 1, 1) := dk_27 (dk_at dksX0_doThresh_1 19 rfl rfl)
theorem dX0_doThresh_44 : decode cX0_doThresh 44 = .ok (.aaload, 1) := dk_50 (dk_at dksX0_doThresh_1 20 rfl rfl)
theorem dX0_doThresh_45 : decode cX0_doThresh 45 = .ok (.astore 4, 2) := dk_58 4 (dk_at dksX0_doThresh_1 21 rfl rfl)
theorem dX0_doThresh_47 : decode cX0_doThresh 47 = .ok (.aload_n 0, 1) := dk_42 (dk_at dksX0_doThresh_1 23 rfl rfl)
theorem dX0_doThresh_48 : decode cX0_doThresh 48 = .ok (.getfield 22, 3) := dk_180 0 22 (dk_at dksX0_doThresh_2 0 rfl rfl)
theorem dX0_doThresh_51 : decode cX0_doThresh 51 = .ok (.getfield 150, 3) := dk_180 0 150 (dk_at dksX0_doThresh_2 3 rfl rfl)
theorem dX0_doThresh_54 : decode cX0_doThresh 54 = .ok (.iload_n 2, 1) := dk_28 (dk_at dksX0_doThresh_2 6 rfl rfl)
theorem dX0_doThresh_55 : decode cX0_doThresh 55 = .ok (.aaload, 1) := dk_50 (dk_at dksX0_doThresh_2 7 rfl rfl)
theorem dX0_doThresh_56 : decode cX0_doThresh 56 = .ok (.astore 5, 2) := dk_58 5 (dk_at dksX0_doThresh_2 8 rfl rfl)
theorem dX0_doThresh_58 : decode cX0_doThresh 58 = .ok (.aload 5, 2) := dk_25 5 (dk_at dksX0_doThresh_2 10 rfl rfl)
theorem dX0_doThresh_60 : decode cX0_doThresh 60 = .ok (.getfield 164, 3) := dk_180 0 164 (dk_at dksX0_doThresh_2 12 rfl rfl)
theorem dX0_doThresh_63 : decode cX0_doThresh 63 = .ok (.iload_n 3, 1) := dk_29 (dk_at dksX0_doThresh_2 15 rfl rfl)
theorem dX0_doThresh_64 : decode cX0_doThresh 64 = .ok (.if_icmp .lt 7, 3) := dk_161 0 7 (dk_at dksX0_doThresh_2 16 rfl rfl)
theorem dX0_doThresh_67 : decode cX0_doThresh 67 = .ok (.iconst 1, 1) := dk_4 (dk_at dksX0_doThresh_2 19 rfl rfl)
theorem dX0_doThresh_68 : decode cX0_doThresh 68 = .ok (.goto 4, 3) := dk_167 0 4 (dk_at dksX0_doThresh_2 20 rfl rfl)
theorem dX0_doThresh_71 : decode cX0_doThresh 71 = .ok (.iconst 0, 1) := dk_3 (dk_at dksX0_doThresh_2 23 rfl rfl)
theorem dX0_doThresh_72 : decode cX0_doThresh 72 = .ok (.iconst 4, 1) := dk_7 (dk_at dksX0_doThresh_3 0 rfl rfl)
theorem dX0_doThresh_73 : decode cX0_doThresh 73 = .ok (.aload 5, 2) := dk_25 5 (dk_at dksX0_doThresh_3 1 rfl rfl)
theorem dX0_doThresh_75 : decode cX0_doThresh 75 = .ok (.getfield 164, 3) := dk_180 0 164 (dk_at dksX0_doThresh_3 3 rfl rfl)
theorem dX0_doThresh_78 : decode cX0_doThresh 78 = .ok (.invokestatic 97, 3) := dk_184 0 97 (dk_at dksX0_doThresh_3 6 rfl rfl)
theorem dX0_doThresh_81 : decode cX0_doThresh 81 = .ok (.aload_n 0, 1) := dk_42 (dk_at dksX0_doThresh_3 9 rfl rfl)
theorem dX0_doThresh_82 : decode cX0_doThresh 82 = .ok (.aload 5, 2) := dk_25 5 (dk_at dksX0_doThresh_3 10 rfl rfl)
theorem dX0_doThresh_84 : decode cX0_doThresh 84 = .ok (.iload_n 3, 1) := dk_29 (dk_at dksX0_doThresh_3 12 rfl rfl)
theorem dX0_doThresh_85 : decode cX0_doThresh 85 = .ok (.invokevirtual 206, 3) := dk_182 0 206 (dk_at dksX0_doThresh_3 13 rfl rfl)
theorem dX0_doThresh_88 : decode cX0_doThresh 88 = .ok (.istore 6, 2) := dk_54 6 (dk_at dksX0_doThresh_3 16 rfl rfl)
theorem dX0_doThresh_90 : decode cX0_doThresh 90 = .ok (.iload 6, 2) := dk_21 6 (dk_at dksX0_doThresh_3 18 rfl rfl)
theorem dX0_doThresh_92 : decode cX0_doThresh 92 = .ok (.iconst (-1), 1) := dk_2 (dk_at dksX0_doThresh_3 20 rfl rfl)
theorem dX0_doThresh_93 : decode cX0_doThresh 93 = .ok (.if_icmp .ne 7, 3) := dk_160 0 7 (dk_at dksX0_doThresh_3 21 rfl rfl)
theorem dX0_doThresh_96 : decode cX0_doThresh 96 = .ok (.iconst 1, 1) := dk_4 (dk_at dksX0_doThresh_4 0 rfl rfl)
theorem dX0_doThresh_97 : decode cX0_doThresh 97 = .ok (.goto 4, 3) := dk_167 0 4 (dk_at dksX0_doThresh_4 1 rfl rfl)
theorem dX0_doThresh_100 : decode cX0_doThresh 100 = .ok (.iconst 0, 1) := dk_3 (dk_at dksX0_doThresh_4 4 rfl rfl)
theorem dX0_doThresh_101 : decode cX0_doThresh 101 = .ok (.bipush 7, 2) := dk_16 7 (dk_at dksX0_doThresh_4 5 rfl rfl)
theorem dX0_doThresh_103 : decode cX0_doThresh 103 = .ok (.iload 6, 2) := dk_21 6 (dk_at dksX0_doThresh_4 7 rfl rfl)
theorem dX0_doThresh_105 : decode cX0_doThresh 105 = .ok (.invokestatic 97, 3) := dk_184 0 97 (dk_at dksX0_doThresh_4 9 rfl rfl)
theorem dX0_doThresh_108 : decode cX0_doThresh 108 = .ok (.aload_n 0, 1) := dk_42 (dk_at dksX0_doThresh_4 12 rfl rfl)
theorem dX0_doThresh_109 : decode cX0_doThresh 109 = .ok (.aload 5, 2) := dk_25 5 (dk_at dksX0_doThresh_4 13 rfl rfl)
theorem dX0_doThresh_111 : decode cX0_doThresh 111 = .ok (.getfield 187, 3) := dk_180 0 187 (dk_at dksX0_doThresh_4 15 rfl rfl)
theorem dX0_doThresh_114 : decode cX0_doThresh 114 = .ok (.aload 5, 2) := dk_25 5 (dk_at dksX0_doThresh_4 18 rfl rfl)
theorem dX0_doThresh_116 : decode cX0_doThresh 116 = .ok (.getfield 191, 3) := dk_180 0 191 (dk_at dksX0_doThresh_4 20 rfl rfl)
theorem dX0_doThresh_119 : decode cX0_doThresh 119 = .ok (.iconst 1, 1) := dk_4 (dk_at dksX0_doThresh_4 23 rfl rfl)
theorem dX0_doThresh_120 : decode cX0_doThresh 120 = .ok (.isub, 1) := dk_100 (dk_at dksX0_doThresh_5 0 rfl rfl)
theorem dX0_doThresh_121 : decode cX0_doThresh 121 = .ok (.aaload, 1) := dk_50 (dk_at dksX0_doThresh_5 1 rfl rfl)
theorem dX0_doThresh_122 : decode cX0_doThresh 122 = .ok (.invokevirtual 194, 3) := dk_182 0 194 (dk_at dksX0_doThresh_5 2 rfl rfl)
theorem dX0_doThresh_125 : decode cX0_doThresh 125 = .ok (.istore 7, 2) := dk_54 7 (dk_at dksX0_doThresh_5 5 rfl rfl)
theorem dX0_doThresh_127 : decode cX0_doThresh 127 = .ok (.aload 4, 2) := dk_25 4 (dk_at dksX0_doThresh_5 7 rfl rfl)
theorem dX0_doThresh_129 : decode cX0_doThresh 129 = .ok (.getfield 210, 3) := dk_180 0 210 (dk_at dksX0_doThresh_5 9 rfl rfl)
theorem dX0_doThresh_132 : decode cX0_doThresh 132 = .ok (.ifCond .eq 13, 3) := dk_153 0 13 (dk_at dksX0_doThresh_5 12 rfl rfl)
theorem dX0_doThresh_135 : decode cX0_doThresh 135 = .ok (.aload 4, 2) := dk_25 4 (dk_at dksX0_doThresh_5 15 rfl rfl)
theorem dX0_doThresh_137 : decode cX0_doThresh 137 = .ok (.getfield 213, 3) := dk_180 0 213 (dk_at dksX0_doThresh_5 17 rfl rfl)
theorem dX0_doThresh_140 : decode cX0_doThresh 140 = .ok (.iload 7, 2) := dk_21 7 (dk_at dksX0_doThresh_5 20 rfl rfl)
theorem dX0_doThresh_142 : decode cX0_doThresh 142 = .ok (.if_icmp .ne 7, 3) := dk_160 0 7 (dk_at dksX0_doThresh_6 0 rfl rfl)
theorem dX0_doThresh_145 : decode cX0_doThresh 145 = .ok (.iconst 1, 1) := dk_4 (dk_at dksX0_doThresh_6 3 rfl rfl)
theorem dX0_doThresh_146 : decode cX0_doThresh 146 = .ok (.goto 4, 3) := dk_167 0 4 (dk_at dksX0_doThresh_6 4 rfl rfl)
theorem dX0_doThresh_149 : decode cX0_doThresh 149 = .ok (.iconst 0, 1) := dk_3 (dk_at dksX0_doThresh_6 7 rfl rfl)
theorem dX0_doThresh_150 : decode cX0_doThresh 150 = .ok (.iconst 5, 1) := dk_8 (dk_at dksX0_doThresh_6 8 rfl rfl)
theorem dX0_doThresh_151 : decode cX0_doThresh 151 = .ok (.aload 4, 2) := dk_25 4 (dk_at dksX0_doThresh_6 9 rfl rfl)
theorem dX0_doThresh_153 : decode cX0_doThresh 153 = .ok (.getfield 213, 3) := dk_180 0 213 (dk_at dksX0_doThresh_6 11 rfl rfl)
theorem dX0_doThresh_156 : decode cX0_doThresh 156 = .ok (.invokestatic 97, 3) := dk_184 0 97 (dk_at dksX0_doThresh_6 14 rfl rfl)
theorem dX0_doThresh_159 : decode cX0_doThresh 159 = .ok (.iload_n 3, 1) := dk_29 (dk_at dksX0_doThresh_6 17 rfl rfl)
theorem dX0_doThresh_160 : decode cX0_doThresh 160 = .ok (.bipush 20, 2) := dk_16 20 (dk_at dksX0_doThresh_6 18 rfl rfl)
theorem dX0_doThresh_162 : decode cX0_doThresh 162 = .ok (.aload 4, 2) := dk_25 4 (dk_at dksX0_doThresh_6 20 rfl rfl)
theorem dX0_doThresh_164 : decode cX0_doThresh 164 = .ok (.getfield 210, 3) := dk_180 0 210 (dk_at dksX0_doThresh_7 0 rfl rfl)
theorem dX0_doThresh_167 : decode cX0_doThresh 167 = .ok (.isub, 1) := dk_100 (dk_at dksX0_doThresh_7 3 rfl rfl)
theorem dX0_doThresh_168 : decode cX0_doThresh 168 = .ok (.if_icmp .gt 7, 3) := dk_163 0 7 (dk_at dksX0_doThresh_7 4 rfl rfl)
theorem dX0_doThresh_171 : decode cX0_doThresh 171 = .ok (.iconst 1, 1) := dk_4 (dk_at dksX0_doThresh_7 7 rfl rfl)
theorem dX0_doThresh_172 : decode cX0_doThresh 172 = .ok (.goto 4, 3) := dk_167 0 4 (dk_at dksX0_doThresh_7 8 rfl rfl)
theorem dX0_doThresh_175 : decode cX0_doThresh 175 = .ok (.iconst 0, 1) := dk_3 (dk_at dksX0_doThresh_7 11 rfl rfl)
theorem dX0_doThresh_176 : decode cX0_doThresh 176 = .ok (.bipush 6, 2) := dk_16 6 (dk_at dksX0_doThresh_7 12 rfl rfl)
theorem dX0_doThresh_178 : decode cX0_doThresh 178 = .ok (.bipush 20, 2) := dk_16 20 (dk_at dksX0_doThresh_7 14 rfl rfl)
theorem dX0_doThresh_180 : decode cX0_doThresh 180 = .ok (.aload 4, 2) := dk_25 4 (dk_at dksX0_doThresh_7 16 rfl rfl)
theorem dX0_doThresh_182 : decode cX0_doThresh 182 = .ok (.getfield 210, 3) := dk_180 0 210 (dk_at dksX0_doThresh_7 18 rfl rfl)
theorem dX0_doThresh_185 : decode cX0_doThresh 185 = .ok (.isub, 1) := dk_100 (dk_at dksX0_doThresh_7 21 rfl rfl)
theorem dX0_doThresh_186 : decode cX0_doThresh 186 = .ok (.invokestatic 97, 3) := dk_184 0 97 (dk_at dksX0_doThresh_8 0 rfl rfl)
theorem dX0_doThresh_189 : decode cX0_doThresh 189 = .ok (.iconst 0, 1) := dk_3 (dk_at dksX0_doThresh_8 3 rfl rfl)
theorem dX0_doThresh_190 : decode cX0_doThresh 190 = .ok (.istore 8, 2) := dk_54 8 (dk_at dksX0_doThresh_8 4 rfl rfl)
theorem dX0_doThresh_192 : decode cX0_doThresh 192 = .ok (.iload 8, 2) := dk_21 8 (dk_at dksX0_doThresh_8 6 rfl rfl)
theorem dX0_doThresh_194 : decode cX0_doThresh 194 = .ok (.iload_n 3, 1) := dk_29 (dk_at dksX0_doThresh_8 8 rfl rfl)
theorem dX0_doThresh_195 : decode cX0_doThresh 195 = .ok (.if_icmp .ge 16, 3) := dk_162 0 16 (dk_at dksX0_doThresh_8 9 rfl rfl)
theorem dX0_doThresh_198 : decode cX0_doThresh 198 = .ok (.aload 5, 2) := dk_25 5 (dk_at dksX0_doThresh_8 12 rfl rfl)
theorem dX0_doThresh_200 : decode cX0_doThresh 200 = .ok (.invokevirtual 214, 3) := dk_182 0 214 (dk_at dksX0_doThresh_8 14 rfl rfl)
theorem dX0_doThresh_203 : decode cX0_doThresh 203 = .ok (.istore 9, 2) := dk_54 9 (dk_at dksX0_doThresh_8 17 rfl rfl)
theorem dX0_doThresh_205 : decode cX0_doThresh 205 = .ok (.iinc 8 1, 3) := dk_132 8 1 (dk_at dksX0_doThresh_8 19 rfl rfl)
theorem dX0_doThresh_208 : decode cX0_doThresh 208 = .ok (.goto (-16), 3) := dk_167 255 240 (dk_at dksX0_doThresh_9 0 rfl rfl)
theorem dX0_doThresh_211 : decode cX0_doThresh 211 = .ok (.aload 4, 2) := dk_25 4 (dk_at dksX0_doThresh_9 3 rfl rfl)
theorem dX0_doThresh_213 : decode cX0_doThresh 213 = .ok (.iload 7, 2) := dk_21 7 (dk_at dksX0_doThresh_9 5 rfl rfl)
theorem dX0_doThresh_215 : decode cX0_doThresh 215 = .ok (.putfield 213, 3) := dk_181 0 213 (dk_at dksX0_doThresh_9 7 rfl rfl)
theorem dX0_doThresh_218 : decode cX0_doThresh 218 = .ok (.aload 4, 2) := dk_25 4 (dk_at dksX0_doThresh_9 10 rfl rfl)
theorem dX0_doThresh_220 : decode cX0_doThresh 220 = .ok (.dup, 1) := dk_89 (dk_at dksX0_doThresh_9 12 rfl rfl)
theorem dX0_doThresh_221 : decode cX0_doThresh 221 = .ok (.getfield 210, 3) := dk_180 0 210 (dk_at dksX0_doThresh_9 13 rfl rfl)
theorem dX0_doThresh_224 : decode cX0_doThresh 224 = .ok (.iload_n 3, 1) := dk_29 (dk_at dksX0_doThresh_9 16 rfl rfl)
theorem dX0_doThresh_225 : decode cX0_doThresh 225 = .ok (.iadd, 1) := dk_96 (dk_at dksX0_doThresh_9 17 rfl rfl)
theorem dX0_doThresh_226 : decode cX0_doThresh 226 = .ok (.putfield 210, 3) := dk_181 0 210 (dk_at dksX0_doThresh_9 18 rfl rfl)
theorem dX0_doThresh_229 : decode cX0_doThresh 229 = .ok (.aload 4, 2) := dk_25 4 (dk_at dksX0_doThresh_9 21 rfl rfl)
theorem dX0_doThresh_231 : decode cX0_doThresh 231 = .ok (.getfield 210, 3) := dk_180 0 210 (dk_at dksX0_doThresh_10 0 rfl rfl)
theorem dX0_doThresh_234 : decode cX0_doThresh 234 = .ok (.ireturn, 1) := dk_172 (dk_at dksX0_doThresh_10 3 rfl rfl)
def dkwX0_isFloor_0 : List UInt8 := [26, 3, 4, 184, 0, 82, 172]
abbrev dktX0_isFloor_0 : List UInt8 := dkwX0_isFloor_0 ++ []
theorem dksX0_isFloor_0 : cX0_isFloor.data.toList.drop 0 = dktX0_isFloor_0 := by decide +kernel
theorem dX0_isFloor_0 : decode cX0_isFloor 0 = .ok (.iload_n 0, 1) := dk_26 (dk_at dksX0_isFloor_0 0 rfl rfl)
theorem dX0_isFloor_1 : decode cX0_isFloor 1 = .ok (.iconst 0, 1) := dk_3 (dk_at dksX0_isFloor_0 1 rfl rfl)
theorem dX0_isFloor_2 : decode cX0_isFloor 2 = .ok (.iconst 1, 1) := dk_4 (dk_at dksX0_isFloor_0 2 rfl rfl)
theorem dX0_isFloor_3 : decode cX0_isFloor 3 = .ok (.invokestatic 82, 3) := dk_184 0 82 (dk_at dksX0_isFloor_0 3 rfl rfl)
theorem dX0_isFloor_6 : decode cX0_isFloor 6 = .ok (.ireturn, 1) := dk_172 (dk_at dksX0_isFloor_0 6 rfl rfl)
def dkwX0_otherKind_3 : List UInt8 := [132, 5, 255, 167, 255, 208, 2, 172]
abbrev dktX0_otherKind_3 : List UInt8 := dkwX0_otherKind_3 ++ []
def dkwX0_otherKind_2 : List UInt8 := [43, 180, 0, 187, 21, 5, 50, 182, 0, 194, 172, 29, 43, 180, 0, 187, 21, 5, 50, 180, 0, 198, 100, 62]
abbrev dktX0_otherKind_2 : List UInt8 := dkwX0_otherKind_2 ++ dktX0_otherKind_3
def dkwX0_otherKind_1 : List UInt8 := [100, 54, 5, 29, 158, 0, 50, 42, 43, 180, 0, 187, 21, 5, 50, 182, 0, 194, 21, 4, 159, 0, 15, 42]
abbrev dktX0_otherKind_1 : List UInt8 := dkwX0_otherKind_1 ++ dktX0_otherKind_2
def dkwX0_otherKind_0 : List UInt8 := [28, 62, 42, 43, 180, 0, 187, 43, 180, 0, 191, 4, 100, 50, 182, 0, 194, 54, 4, 43, 180, 0, 191, 4]
abbrev dktX0_otherKind_0 : List UInt8 := dkwX0_otherKind_0 ++ dktX0_otherKind_1
theorem dksX0_otherKind_0 : cX0_otherKind.data.toList.drop 0 = dktX0_otherKind_0 := by decide +kernel
theorem dksX0_otherKind_1 : cX0_otherKind.data.toList.drop 24 = dktX0_otherKind_1 := dk_seg dksX0_otherKind_0 24 rfl rfl
theorem dksX0_otherKind_2 : cX0_otherKind.data.toList.drop 48 = dktX0_otherKind_2 := dk_seg dksX0_otherKind_1 24 rfl rfl
theorem dksX0_otherKind_3 : cX0_otherKind.data.toList.drop 72 = dktX0_otherKind_3 := dk_seg dksX0_otherKind_2 24 rfl rfl
theorem dX0_otherKind_0 : decode cX0_otherKind 0 = .ok (.iload_n 2, 1) := dk_28 (dk_at dksX0_otherKind_0 0 rfl rfl)
theorem dX0_otherKind_1 : decode cX0_otherKind 1 = .ok (.istore_n 3, 1) := dk_62 (dk_at dksX0_otherKind_0 1 rfl rfl)
theorem dX0_otherKind_2 : decode cX0_otherKind 2 = .ok (.aload_n 0, 1) := dk_42 (dk_at dksX0_otherKind_0 2 rfl rfl)
theorem dX0_otherKind_3 : decode cX0_otherKind 3 = .ok (.aload_n 1, 1) := dk_43 (dk_at dksX0_otherKind_0 3 rfl rfl)
theorem dX0_otherKind_4 : decode cX0_otherKind 4 = .ok (.getfield 187, 3) := dk_180 0 187 (dk_at dksX0_otherKind_0 4 rfl rfl)
theorem dX0_otherKind_7 : decode cX0_otherKind 7 = .ok (.aload_n 1, 1) := dk_43 (dk_at dksX0_otherKind_0 7 rfl rfl)
theorem dX0_otherKind_8 : decode cX0_otherKind 8 = .ok (.getfield 191, 3) := dk_180 0 191 (dk_at dksX0_otherKind_0 8 rfl rfl)
theorem dX0_otherKind_11 : decode cX0_otherKind 11 = .ok (.iconst 1, 1) := dk_4 (dk_at dksX0_otherKind_0 11 rfl rfl)
theorem dX0_otherKind_12 : decode cX0_otherKind 12 = .ok (.isub, 1) := dk_100 (dk_at dksX0_otherKind_0 12 rfl rfl)
theorem dX0_otherKind_13 : decode cX0_otherKind 13 = .ok (.aaload, 1) := dk_50 (dk_at dksX0_otherKind_0 13 rfl rfl)
theorem dX0_otherKind_14 : decode cX0_otherKind 14 = .ok (.invokevirtual 194, 3) := dk_182 0 194 (dk_at dksX0_otherKind_0 14 rfl rfl)
theorem dX0_otherKind_17 : decode cX0_otherKind 17 = .ok (.istore 4, 2) := dk_54 4 (dk_at dksX0_otherKind_0 17 rfl rfl)
theorem dX0_otherKind_19 : decode cX0_otherKind 19 = .ok (.aload_n 1, 1) := dk_43 (dk_at dksX0_otherKind_0 19 rfl rfl)
theorem dX0_otherKind_20 : decode cX0_otherKind 20 = .ok (.getfield 191, 3) := dk_180 0 191 (dk_at dksX0_otherKind_0 20 rfl rfl)
theorem dX0_otherKind_23 : decode cX0_otherKind 23 = .ok (.iconst 1, 1) := dk_4 (dk_at dksX0_otherKind_0 23 rfl rfl)
theorem dX0_otherKind_24 : decode cX0_otherKind 24 = .ok (.isub, 1) := dk_100 (dk_at dksX0_otherKind_1 0 rfl rfl)
theorem dX0_otherKind_25 : decode cX0_otherKind 25 = .ok (.istore 5, 2) := dk_54 5 (dk_at dksX0_otherKind_1 1 rfl rfl)
theorem dX0_otherKind_27 : decode cX0_otherKind 27 = .ok (.iload_n 3, 1) := dk_29 (dk_at dksX0_otherKind_1 3 rfl rfl)
theorem dX0_otherKind_28 : decode cX0_otherKind 28 = .ok (.ifCond .le 50, 3) := dk_158 0 50 (dk_at dksX0_otherKind_1 4 rfl rfl)
theorem dX0_otherKind_31 : decode cX0_otherKind 31 = .ok (.aload_n 0, 1) := dk_42 (dk_at dksX0_otherKind_1 7 rfl rfl)
theorem dX0_otherKind_32 : decode cX0_otherKind 32 = .ok (.aload_n 1, 1) := dk_43 (dk_at dksX0_otherKind_1 8 rfl rfl)
theorem dX0_otherKind_33 : decode cX0_otherKind 33 = .ok (.getfield 187, 3) := dk_180 0 187 (dk_at dksX0_otherKind_1 9 rfl rfl)
theorem dX0_otherKind_36 : decode cX0_otherKind 36 = .ok (.iload 5, 2) := dk_21 5 (dk_at dksX0_otherKind_1 12 rfl rfl)
theorem dX0_otherKind_38 : decode cX0_otherKind 38 = .ok (.aaload, 1) := dk_50 (dk_at dksX0_otherKind_1 14 rfl rfl)
theorem dX0_otherKind_39 : decode cX0_otherKind 39 = .ok (.invokevirtual 194, 3) := dk_182 0 194 (dk_at dksX0_otherKind_1 15 rfl rfl)
theorem dX0_otherKind_42 : decode cX0_otherKind 42 = .ok (.iload 4, 2) := dk_21 4 (dk_at dksX0_otherKind_1 18 rfl rfl)
theorem dX0_otherKind_44 : decode cX0_otherKind 44 = .ok (.if_icmp .eq 15, 3) := dk_159 0 15 (dk_at dksX0_otherKind_1 20 rfl rfl)
theorem dX0_otherKind_47 : decode cX0_otherKind 47 = .ok (.aload_n 0, 1) := dk_42 (dk_at dksX0_otherKind_1 23 rfl rfl)
theorem dX0_otherKind_48 : decode cX0_otherKind 48 = .ok (.aload_n 1, 1) := dk_43 (dk_at dksX0_otherKind_2 0 rfl rfl)
theorem dX0_otherKind_49 : decode cX0_otherKind 49 = .ok (.getfield 187, 3) := dk_180 0 187 (dk_at dksX0_otherKind_2 1 rfl rfl)
theorem dX0_otherKind_52 : decode cX0_otherKind 52 = .ok (.iload 5, 2) := dk_21 5 (dk_at dksX0_otherKind_2 4 rfl rfl)
theorem dX0_otherKind_54 : decode cX0_otherKind 54 = .ok (.aaload, 1) := dk_50 (dk_at dksX0_otherKind_2 6 rfl rfl)
theorem dX0_otherKind_55 : decode cX0_otherKind 55 = .ok (.invokevirtual 194, 3) := dk_182 0 194 (dk_at dksX0_otherKind_2 7 rfl rfl)
theorem dX0_otherKind_58 : decode cX0_otherKind 58 = .ok (.ireturn, 1) := dk_172 (dk_at dksX0_otherKind_2 10 rfl rfl)
theorem dX0_otherKind_59 : decode cX0_otherKind 59 = .ok (.iload_n 3, 1) := dk_29 (dk_at dksX0_otherKind_2 11 rfl rfl)
theorem dX0_otherKind_60 : decode cX0_otherKind 60 = .ok (.aload_n 1, 1) := dk_43 (dk_at dksX0_otherKind_2 12 rfl rfl)
theorem dX0_otherKind_61 : decode cX0_otherKind 61 = .ok (.getfield 187, 3) := dk_180 0 187 (dk_at dksX0_otherKind_2 13 rfl rfl)
theorem dX0_otherKind_64 : decode cX0_otherKind 64 = .ok (.iload 5, 2) := dk_21 5 (dk_at dksX0_otherKind_2 16 rfl rfl)
theorem dX0_otherKind_66 : decode cX0_otherKind 66 = .ok (.aaload, 1) := dk_50 (dk_at dksX0_otherKind_2 18 rfl rfl)
theorem dX0_otherKind_67 : decode cX0_otherKind 67 = .ok (.getfield 198, 3) := dk_180 0 198 (dk_at dksX0_otherKind_2 19 rfl rfl)
theorem dX0_otherKind_70 : decode cX0_otherKind 70 = .ok (.isub, 1) := dk_100 (dk_at dksX0_otherKind_2 22 rfl rfl)
theorem dX0_otherKind_71 : decode cX0_otherKind 71 = .ok (.istore_n 3, 1) := dk_62 (dk_at dksX0_otherKind_2 23 rfl rfl)
theorem dX0_otherKind_72 : decode cX0_otherKind 72 = .ok (.iinc 5 (-1), 3) := dk_132 5 255 (dk_at dksX0_otherKind_3 0 rfl rfl)
theorem dX0_otherKind_75 : decode cX0_otherKind 75 = .ok (.goto (-48), 3) := dk_167 255 208 (dk_at dksX0_otherKind_3 3 rfl rfl)
theorem dX0_otherKind_78 : decode cX0_otherKind 78 = .ok (.iconst (-1), 1) := dk_2 (dk_at dksX0_otherKind_3 6 rfl rfl)
theorem dX0_otherKind_79 : decode cX0_otherKind 79 = .ok (.ireturn, 1) := dk_172 (dk_at dksX0_otherKind_3 7 rfl rfl)
def dkwX0_kindOfLot_0 : List UInt8 := [42, 180, 0, 22, 180, 0, 101, 43, 180, 0, 179, 50, 180, 0, 184, 172]
abbrev dktX0_kindOfLot_0 : List UInt8 := dkwX0_kindOfLot_0 ++ []
theorem dksX0_kindOfLot_0 : cX0_kindOfLot.data.toList.drop 0 = dktX0_kindOfLot_0 := by decide +kernel
theorem dX0_kindOfLot_0 : decode cX0_kindOfLot 0 = .ok (.aload_n 0, 1) := dk_42 (dk_at dksX0_kindOfLot_0 0 rfl rfl)
theorem dX0_kindOfLot_1 : decode cX0_kindOfLot 1 = .ok (.getfield 22, 3) := dk_180 0 22 (dk_at dksX0_kindOfLot_0 1 rfl rfl)
theorem dX0_kindOfLot_4 : decode cX0_kindOfLot 4 = .ok (.getfield 101, 3) := dk_180 0 101 (dk_at dksX0_kindOfLot_0 4 rfl rfl)
theorem dX0_kindOfLot_7 : decode cX0_kindOfLot 7 = .ok (.aload_n 1, 1) := dk_43 (dk_at dksX0_kindOfLot_0 7 rfl rfl)
theorem dX0_kindOfLot_8 : decode cX0_kindOfLot 8 = .ok (.getfield 179, 3) := dk_180 0 179 (dk_at dksX0_kindOfLot_0 8 rfl rfl)
theorem dX0_kindOfLot_11 : decode cX0_kindOfLot 11 = .ok (.aaload, 1) := dk_50 (dk_at dksX0_kindOfLot_0 11 rfl rfl)
theorem dX0_kindOfLot_12 : decode cX0_kindOfLot 12 = .ok (.getfield 184, 3) := dk_180 0 184 (dk_at dksX0_kindOfLot_0 12 rfl rfl)
theorem dX0_kindOfLot_15 : decode cX0_kindOfLot 15 = .ok (.ireturn, 1) := dk_172 (dk_at dksX0_kindOfLot_0 15 rfl rfl)
def dkwX0_flails_0 : List UInt8 := [42, 182, 0, 110, 42, 42, 27, 28, 182, 0, 223, 182, 0, 117, 172, 78, 42, 45, 182, 0, 120, 172]
abbrev dktX0_flails_0 : List UInt8 := dkwX0_flails_0 ++ []
theorem dksX0_flails_0 : cX0_flails.data.toList.drop 0 = dktX0_flails_0 := by decide +kernel
theorem dX0_flails_0 : decode cX0_flails 0 = .ok (.aload_n 0, 1) := dk_42 (dk_at dksX0_flails_0 0 rfl rfl)
theorem dX0_flails_1 : decode cX0_flails 1 = .ok (.invokevirtual 110, 3) := dk_182 0 110 (dk_at dksX0_flails_0 1 rfl rfl)
theorem dX0_flails_4 : decode cX0_flails 4 = .ok (.aload_n 0, 1) := dk_42 (dk_at dksX0_flails_0 4 rfl rfl)
theorem dX0_flails_5 : decode cX0_flails 5 = .ok (.aload_n 0, 1) := dk_42 (dk_at dksX0_flails_0 5 rfl rfl)
theorem dX0_flails_6 : decode cX0_flails 6 = .ok (.iload_n 1, 1) := dk_27 (dk_at dksX0_flails_0 6 rfl rfl)
theorem dX0_flails_7 : decode cX0_flails 7 = .ok (.iload_n 2, 1) := dk_28 (dk_at dksX0_flails_0 7 rfl rfl)
theorem dX0_flails_8 : decode cX0_flails 8 = .ok (.invokevirtual 223, 3) := dk_182 0 223 (dk_at dksX0_flails_0 8 rfl rfl)
theorem dX0_flails_11 : decode cX0_flails 11 = .ok (.invokevirtual 117, 3) := dk_182 0 117 (dk_at dksX0_flails_0 11 rfl rfl)
theorem dX0_flails_14 : decode cX0_flails 14 = .ok (.ireturn, 1) := dk_172 (dk_at dksX0_flails_0 14 rfl rfl)
theorem dX0_flails_15 : decode cX0_flails 15 = .ok (.astore_n 3, 1) := dk_78 (dk_at dksX0_flails_0 15 rfl rfl)
theorem dX0_flails_16 : decode cX0_flails 16 = .ok (.aload_n 0, 1) := dk_42 (dk_at dksX0_flails_0 16 rfl rfl)
theorem dX0_flails_17 : decode cX0_flails 17 = .ok (.aload_n 3, 1) := dk_45 (dk_at dksX0_flails_0 17 rfl rfl)
theorem dX0_flails_18 : decode cX0_flails 18 = .ok (.invokevirtual 120, 3) := dk_182 0 120 (dk_at dksX0_flails_0 18 rfl rfl)
theorem dX0_flails_21 : decode cX0_flails 21 = .ok (.ireturn, 1) := dk_172 (dk_at dksX0_flails_0 21 rfl rfl)
def dkwX0_doFlails_1 : List UInt8 := [180, 0, 202, 27, 50, 180, 0, 220, 62, 42, 180, 0, 22, 180, 0, 202, 27, 50, 28, 181, 0, 220, 29, 172]
abbrev dktX0_doFlails_1 : List UInt8 := dkwX0_doFlails_1 ++ []
def dkwX0_doFlails_0 : List UInt8 := [27, 184, 0, 199, 2, 184, 0, 93, 28, 4, 16, 6, 184, 0, 82, 16, 254, 184, 0, 93, 42, 180, 0, 22]
abbrev dktX0_doFlails_0 : List UInt8 := dkwX0_doFlails_0 ++ dktX0_doFlails_1
theorem dksX0_doFlails_0 : cX0_doFlails.data.toList.drop 0 = dktX0_doFlails_0 := by decide +kernel
theorem dksX0_doFlails_1 : cX0_doFlails.data.toList.drop 24 = dktX0_doFlails_1 := dk_seg dksX0_doFlails_0 24 rfl rfl
theorem dX0_doFlails_0 : decode cX0_doFlails 0 = .ok (.iload_n 1, 1) := dk_27 (dk_at dksX0_doFlails_0 0 rfl rfl)
theorem dX0_doFlails_1 : decode cX0_doFlails 1 = .ok (.invokestatic 199, 3) := dk_184 0 199 (dk_at dksX0_doFlails_0 1 rfl rfl)
theorem dX0_doFlails_4 : decode cX0_doFlails 4 = .ok (.iconst (-1), 1) := dk_2 (dk_at dksX0_doFlails_0 4 rfl rfl)
theorem dX0_doFlails_5 : decode cX0_doFlails 5 = .ok (.invokestatic 93, 3) := dk_184 0 93 (dk_at dksX0_doFlails_0 5 rfl rfl)
theorem dX0_doFlails_8 : decode cX0_doFlails 8 = .ok (.iload_n 2, 1) := dk_28 (dk_at dksX0_doFlails_0 8 rfl rfl)
theorem dX0_doFlails_9 : decode cX0_doFlails 9 = .ok (.iconst 1, 1) := dk_4 (dk_at dksX0_doFlails_0 9 rfl rfl)
theorem dX0_doFlails_10 : decode cX0_doFlails 10 = .ok (.bipush 6, 2) := dk_16 6 (dk_at dksX0_doFlails_0 10 rfl rfl)
theorem dX0_doFlails_12 : decode cX0_doFlails 12 = .ok (.invokestatic 82, 3) := dk_184 0 82 (dk_at dksX0_doFlails_0 12 rfl rfl)
theorem dX0_doFlails_15 : decode cX0_doFlails 15 = .ok (.bipush (-2), 2) := dk_16 254 (dk_at dksX0_doFlails_0 15 rfl rfl)
theorem dX0_doFlails_17 : decode cX0_doFlails 17 = .ok (.invokestatic 93, 3) := dk_184 0 93 (dk_at dksX0_doFlails_0 17 rfl rfl)
theorem dX0_doFlails_20 : decode cX0_doFlails 20 = .ok (.aload_n 0, 1) := dk_42 (dk_at dksX0_doFlails_0 20 rfl rfl)
theorem dX0_doFlails_21 : decode cX0_doFlails 21 = .ok (.getfield 22, 3) := dk_180 0 22 (dk_at dksX0_doFlails_0 21 rfl rfl)
theorem dX0_doFlails_24 : decode cX0_doFlails 24 = .ok (.getfield 202, 3) := dk_180 0 202 (dk_at dksX0_doFlails_1 0 rfl rfl)
theorem dX0_doFlails_27 : decode cX0_doFlails 27 = .ok (.iload_n 1, 1) := dk_27 (dk_at dksX0_doFlails_1 3 rfl rfl)
theorem dX0_doFlails_28 : decode cX0_doFlails 28 = .ok (.aaload, 1) := dk_50 (dk_at dksX0_doFlails_1 4 rfl rfl)
theorem dX0_doFlails_29 : decode cX0_doFlails 29 = .ok (.getfield 220, 3) := dk_180 0 220 (dk_at dksX0_doFlails_1 5 rfl rfl)
theorem dX0_doFlails_32 : decode cX0_doFlails 32 = .ok (.istore_n 3, 1) := dk_62 (dk_at dksX0_doFlails_1 8 rfl rfl)
theorem dX0_doFlails_33 : decode cX0_doFlails 33 = .ok (.aload_n 0, 1) := dk_42 (dk_at dksX0_doFlails_1 9 rfl rfl)
theorem dX0_doFlails_34 : decode cX0_doFlails 34 = .ok (.getfield 22, 3) := dk_180 0 22 (dk_at dksX0_doFlails_1 10 rfl rfl)
theorem dX0_doFlails_37 : decode cX0_doFlails 37 = .ok (.getfield 202, 3) := dk_180 0 202 (dk_at dksX0_doFlails_1 13 rfl rfl)
theorem dX0_doFlails_40 : decode cX0_doFlails 40 = .ok (.iload_n 1, 1) := dk_27 (dk_at dksX0_doFlails_1 16 rfl rfl)
theorem dX0_doFlails_41 : decode cX0_doFlails 41 = .ok (.aaload, 1) := dk_50 (dk_at dksX0_doFlails_1 17 rfl rfl)
theorem dX0_doFlails_42 : decode cX0_doFlails 42 = .ok (.iload_n 2, 1) := dk_28 (dk_at dksX0_doFlails_1 18 rfl rfl)
theorem dX0_doFlails_43 : decode cX0_doFlails 43 = .ok (.putfield 220, 3) := dk_181 0 220 (dk_at dksX0_doFlails_1 19 rfl rfl)
theorem dX0_doFlails_46 : decode cX0_doFlails 46 = .ok (.iload_n 3, 1) := dk_29 (dk_at dksX0_doFlails_1 22 rfl rfl)
theorem dX0_doFlails_47 : decode cX0_doFlails 47 = .ok (.ireturn, 1) := dk_172 (dk_at dksX0_doFlails_1 23 rfl rfl)
def dkwX0_price_0 : List UInt8 := [42, 182, 0, 110, 42, 42, 27, 28, 182, 0, 235, 182, 0, 117, 172, 78, 42, 45, 182, 0, 120, 172]
abbrev dktX0_price_0 : List UInt8 := dkwX0_price_0 ++ []
theorem dksX0_price_0 : cX0_price.data.toList.drop 0 = dktX0_price_0 := by decide +kernel
theorem dX0_price_0 : decode cX0_price 0 = .ok (.aload_n 0, 1) := dk_42 (dk_at dksX0_price_0 0 rfl rfl)
theorem dX0_price_1 : decode cX0_price 1 = .ok (.invokevirtual 110, 3) := dk_182 0 110 (dk_at dksX0_price_0 1 rfl rfl)
theorem dX0_price_4 : decode cX0_price 4 = .ok (.aload_n 0, 1) := dk_42 (dk_at dksX0_price_0 4 rfl rfl)
theorem dX0_price_5 : decode cX0_price 5 = .ok (.aload_n 0, 1) := dk_42 (dk_at dksX0_price_0 5 rfl rfl)
theorem dX0_price_6 : decode cX0_price 6 = .ok (.iload_n 1, 1) := dk_27 (dk_at dksX0_price_0 6 rfl rfl)
theorem dX0_price_7 : decode cX0_price 7 = .ok (.iload_n 2, 1) := dk_28 (dk_at dksX0_price_0 7 rfl rfl)
theorem dX0_price_8 : decode cX0_price 8 = .ok (.invokevirtual 235, 3) := dk_182 0 235 (dk_at dksX0_price_0 8 rfl rfl)
theorem dX0_price_11 : decode cX0_price 11 = .ok (.invokevirtual 117, 3) := dk_182 0 117 (dk_at dksX0_price_0 11 rfl rfl)
theorem dX0_price_14 : decode cX0_price 14 = .ok (.ireturn, 1) := dk_172 (dk_at dksX0_price_0 14 rfl rfl)
theorem dX0_price_15 : decode cX0_price 15 = .ok (.astore_n 3, 1) := dk_78 (dk_at dksX0_price_0 15 rfl rfl)
theorem dX0_price_16 : decode cX0_price 16 = .ok (.aload_n 0, 1) := dk_42 (dk_at dksX0_price_0 16 rfl rfl)
theorem dX0_price_17 : decode cX0_price 17 = .ok (.aload_n 3, 1) := dk_45 (dk_at dksX0_price_0 17 rfl rfl)
theorem dX0_price_18 : decode cX0_price 18 = .ok (.invokevirtual 120, 3) := dk_182 0 120 (dk_at dksX0_price_0 18 rfl rfl)
theorem dX0_price_21 : decode cX0_price 21 = .ok (.ireturn, 1) := dk_172 (dk_at dksX0_price_0 21 rfl rfl)
def dkwX0_doPrice_1 : List UInt8 := [180, 0, 226, 27, 50, 180, 0, 230, 62, 42, 180, 0, 22, 180, 0, 226, 27, 50, 28, 181, 0, 230, 29, 172]
abbrev dktX0_doPrice_1 : List UInt8 := dkwX0_doPrice_1 ++ []
def dkwX0_doPrice_0 : List UInt8 := [27, 184, 0, 89, 2, 184, 0, 93, 28, 4, 16, 50, 184, 0, 82, 16, 254, 184, 0, 93, 42, 180, 0, 22]
abbrev dktX0_doPrice_0 : List UInt8 := dkwX0_doPrice_0 ++ dktX0_doPrice_1
theorem dksX0_doPrice_0 : cX0_doPrice.data.toList.drop 0 = dktX0_doPrice_0 := by decide +kernel
theorem dksX0_doPrice_1 : cX0_doPrice.data.toList.drop 24 = dktX0_doPrice_1 := dk_seg dksX0_doPrice_0 24 rfl rfl
theorem dX0_doPrice_0 : decode cX0_doPrice 0 = .ok (.iload_n 1, 1) := dk_27 (dk_at dksX0_doPrice_0 0 rfl rfl)
theorem dX0_doPrice_1 : decode cX0_doPrice 1 = .ok (.invokestatic 89, 3) := dk_184 0 89 (dk_at dksX0_doPrice_0 1 rfl rfl)
theorem dX0_doPrice_4 : decode cX0_doPrice 4 = .ok (.iconst (-1), 1) := dk_2 (dk_at dksX0_doPrice_0 4 rfl rfl)
theorem dX0_doPrice_5 : decode cX0_doPrice 5 = .ok (.invokestatic 93, 3) := dk_184 0 93 (dk_at dksX0_doPrice_0 5 rfl rfl)
theorem dX0_doPrice_8 : decode cX0_doPrice 8 = .ok (.iload_n 2, 1) := dk_28 (dk_at dksX0_doPrice_0 8 rfl rfl)
theorem dX0_doPrice_9 : decode cX0_doPrice 9 = .ok (.iconst 1, 1) := dk_4 (dk_at dksX0_doPrice_0 9 rfl rfl)
theorem dX0_doPrice_10 : decode cX0_doPrice 10 = .ok (.bipush 50, 2) := dk_16 50 (dk_at dksX0_doPrice_0 10 rfl rfl)
theorem dX0_doPrice_12 : decode cX0_doPrice 12 = .ok (.invokestatic 82, 3) := dk_184 0 82 (dk_at dksX0_doPrice_0 12 rfl rfl)
theorem dX0_doPrice_15 : decode cX0_doPrice 15 = .ok (.bipush (-2), 2) := dk_16 254 (dk_at dksX0_doPrice_0 15 rfl rfl)
theorem dX0_doPrice_17 : decode cX0_doPrice 17 = .ok (.invokestatic 93, 3) := dk_184 0 93 (dk_at dksX0_doPrice_0 17 rfl rfl)
theorem dX0_doPrice_20 : decode cX0_doPrice 20 = .ok (.aload_n 0, 1) := dk_42 (dk_at dksX0_doPrice_0 20 rfl rfl)
theorem dX0_doPrice_21 : decode cX0_doPrice 21 = .ok (.getfield 22, 3) := dk_180 0 22 (dk_at dksX0_doPrice_0 21 rfl rfl)
theorem dX0_doPrice_24 : decode cX0_doPrice 24 = .ok (.getfield 226, 3) := dk_180 0 226 (dk_at dksX0_doPrice_1 0 rfl rfl)
theorem dX0_doPrice_27 : decode cX0_doPrice 27 = .ok (.iload_n 1, 1) := dk_27 (dk_at dksX0_doPrice_1 3 rfl rfl)
theorem dX0_doPrice_28 : decode cX0_doPrice 28 = .ok (.aaload, 1) := dk_50 (dk_at dksX0_doPrice_1 4 rfl rfl)
theorem dX0_doPrice_29 : decode cX0_doPrice 29 = .ok (.getfield 230, 3) := dk_180 0 230 (dk_at dksX0_doPrice_1 5 rfl rfl)
theorem dX0_doPrice_32 : decode cX0_doPrice 32 = .ok (.istore_n 3, 1) := dk_62 (dk_at dksX0_doPrice_1 8 rfl rfl)
theorem dX0_doPrice_33 : decode cX0_doPrice 33 = .ok (.aload_n 0, 1) := dk_42 (dk_at dksX0_doPrice_1 9 rfl rfl)
theorem dX0_doPrice_34 : decode cX0_doPrice 34 = .ok (.getfield 22, 3) := dk_180 0 22 (dk_at dksX0_doPrice_1 10 rfl rfl)
theorem dX0_doPrice_37 : decode cX0_doPrice 37 = .ok (.getfield 226, 3) := dk_180 0 226 (dk_at dksX0_doPrice_1 13 rfl rfl)
theorem dX0_doPrice_40 : decode cX0_doPrice 40 = .ok (.iload_n 1, 1) := dk_27 (dk_at dksX0_doPrice_1 16 rfl rfl)
theorem dX0_doPrice_41 : decode cX0_doPrice 41 = .ok (.aaload, 1) := dk_50 (dk_at dksX0_doPrice_1 17 rfl rfl)
theorem dX0_doPrice_42 : decode cX0_doPrice 42 = .ok (.iload_n 2, 1) := dk_28 (dk_at dksX0_doPrice_1 18 rfl rfl)
theorem dX0_doPrice_43 : decode cX0_doPrice 43 = .ok (.putfield 230, 3) := dk_181 0 230 (dk_at dksX0_doPrice_1 19 rfl rfl)
theorem dX0_doPrice_46 : decode cX0_doPrice 46 = .ok (.iload_n 3, 1) := dk_29 (dk_at dksX0_doPrice_1 22 rfl rfl)
theorem dX0_doPrice_47 : decode cX0_doPrice 47 = .ok (.ireturn, 1) := dk_172 (dk_at dksX0_doPrice_1 23 rfl rfl)
def dkwX0_sell_1 : List UInt8 := [172]
abbrev dktX0_sell_1 : List UInt8 := dkwX0_sell_1 ++ []
def dkwX0_sell_0 : List UInt8 := [42, 182, 0, 110, 42, 42, 27, 28, 29, 182, 1, 3, 182, 0, 117, 172, 58, 4, 42, 25, 4, 182, 0, 120]
abbrev dktX0_sell_0 : List UInt8 := dkwX0_sell_0 ++ dktX0_sell_1
theorem dksX0_sell_0 : cX0_sell.data.toList.drop 0 = dktX0_sell_0 := by decide +kernel
theorem dksX0_sell_1 : cX0_sell.data.toList.drop 24 = dktX0_sell_1 := dk_seg dksX0_sell_0 24 rfl rfl
theorem dX0_sell_0 : decode cX0_sell 0 = .ok (.aload_n 0, 1) := dk_42 (dk_at dksX0_sell_0 0 rfl rfl)
theorem dX0_sell_1 : decode cX0_sell 1 = .ok (.invokevirtual 110, 3) := dk_182 0 110 (dk_at dksX0_sell_0 1 rfl rfl)
theorem dX0_sell_4 : decode cX0_sell 4 = .ok (.aload_n 0, 1) := dk_42 (dk_at dksX0_sell_0 4 rfl rfl)
theorem dX0_sell_5 : decode cX0_sell 5 = .ok (.aload_n 0, 1) := dk_42 (dk_at dksX0_sell_0 5 rfl rfl)
theorem dX0_sell_6 : decode cX0_sell 6 = .ok (.iload_n 1, 1) := dk_27 (dk_at dksX0_sell_0 6 rfl rfl)
theorem dX0_sell_7 : decode cX0_sell 7 = .ok (.iload_n 2, 1) := dk_28 (dk_at dksX0_sell_0 7 rfl rfl)
theorem dX0_sell_8 : decode cX0_sell 8 = .ok (.iload_n 3, 1) := dk_29 (dk_at dksX0_sell_0 8 rfl rfl)
theorem dX0_sell_9 : decode cX0_sell 9 = .ok (.invokevirtual 259, 3) := dk_182 1 3 (dk_at dksX0_sell_0 9 rfl rfl)
theorem dX0_sell_12 : decode cX0_sell 12 = .ok (.invokevirtual 117, 3) := dk_182 0 117 (dk_at dksX0_sell_0 12 rfl rfl)
theorem dX0_sell_15 : decode cX0_sell 15 = .ok (.ireturn, 1) := dk_172 (dk_at dksX0_sell_0 15 rfl rfl)
theorem dX0_sell_16 : decode cX0_sell 16 = .ok (.astore 4, 2) := dk_58 4 (dk_at dksX0_sell_0 16 rfl rfl)
theorem dX0_sell_18 : decode cX0_sell 18 = .ok (.aload_n 0, 1) := dk_42 (dk_at dksX0_sell_0 18 rfl rfl)
theorem dX0_sell_19 : decode cX0_sell 19 = .ok (.aload 4, 2) := dk_25 4 (dk_at dksX0_sell_0 19 rfl rfl)
theorem dX0_sell_21 : decode cX0_sell 21 = .ok (.invokevirtual 120, 3) := dk_182 0 120 (dk_at dksX0_sell_0 21 rfl rfl)
theorem dX0_sell_24 : decode cX0_sell 24 = .ok (.ireturn, 1) := dk_172 (dk_at dksX0_sell_1 0 rfl rfl)
def dkwX0_doSell_8 : List UInt8 := [172]
abbrev dktX0_doSell_8 : List UInt8 := dkwX0_doSell_8 ++ []
def dkwX0_doSell_7 : List UInt8 := [180, 0, 253, 28, 96, 181, 0, 253, 42, 180, 0, 22, 89, 180, 1, 0, 21, 6, 96, 181, 1, 0, 21, 6]
abbrev dktX0_doSell_7 : List UInt8 := dkwX0_doSell_7 ++ dktX0_doSell_8
def dkwX0_doSell_6 : List UInt8 := [180, 0, 238, 21, 5, 100, 181, 0, 238, 25, 4, 89, 180, 0, 250, 21, 5, 96, 181, 0, 250, 25, 4, 89]
abbrev dktX0_doSell_6 : List UInt8 := dkwX0_doSell_6 ++ dktX0_doSell_7
def dkwX0_doSell_5 : List UInt8 := [21, 6, 183, 0, 11, 183, 0, 161, 191, 28, 25, 4, 180, 0, 230, 29, 96, 104, 54, 6, 25, 4, 89]
abbrev dktX0_doSell_5 : List UInt8 := dkwX0_doSell_5 ++ dktX0_doSell_6
def dkwX0_doSell_4 : List UInt8 := [89, 16, 8, 25, 4, 180, 0, 238, 21, 6, 154, 0, 7, 1, 167, 0, 14, 187, 0, 9, 89, 16, 13]
abbrev dktX0_doSell_4 : List UInt8 := dkwX0_doSell_4 ++ dktX0_doSell_5
def dkwX0_doSell_3 : List UInt8 := [21, 5, 162, 0, 54, 42, 180, 0, 22, 180, 0, 241, 7, 27, 96, 50, 180, 0, 245, 54, 6, 187, 0, 9]
abbrev dktX0_doSell_3 : List UInt8 := dkwX0_doSell_3 ++ dktX0_doSell_4
def dkwX0_doSell_2 : List UInt8 := [58, 4, 28, 29, 4, 160, 0, 8, 16, 72, 167, 0, 5, 16, 64, 104, 54, 5, 25, 4, 180, 0, 238]
abbrev dktX0_doSell_2 : List UInt8 := dkwX0_doSell_2 ++ dktX0_doSell_3
def dkwX0_doSell_1 : List UInt8 := [3, 4, 184, 0, 82, 84, 184, 0, 146, 16, 254, 184, 0, 93, 42, 180, 0, 22, 180, 0, 226, 27, 50]
abbrev dktX0_doSell_1 : List UInt8 := dkwX0_doSell_1 ++ dktX0_doSell_2
def dkwX0_doSell_0 : List UInt8 := [27, 184, 0, 89, 2, 184, 0, 93, 5, 188, 4, 89, 3, 28, 4, 16, 30, 184, 0, 82, 84, 89, 4, 29]
abbrev dktX0_doSell_0 : List UInt8 := dkwX0_doSell_0 ++ dktX0_doSell_1
theorem dksX0_doSell_0 : cX0_doSell.data.toList.drop 0 = dktX0_doSell_0 := by decide +kernel
theorem dksX0_doSell_1 : cX0_doSell.data.toList.drop 24 = dktX0_doSell_1 := dk_seg dksX0_doSell_0 24 rfl rfl
theorem dksX0_doSell_2 : cX0_doSell.data.toList.drop 47 = dktX0_doSell_2 := dk_seg dksX0_doSell_1 23 rfl rfl
theorem dksX0_doSell_3 : cX0_doSell.data.toList.drop 70 = dktX0_doSell_3 := dk_seg dksX0_doSell_2 23 rfl rfl
theorem dksX0_doSell_4 : cX0_doSell.data.toList.drop 94 = dktX0_doSell_4 := dk_seg dksX0_doSell_3 24 rfl rfl
theorem dksX0_doSell_5 : cX0_doSell.data.toList.drop 117 = dktX0_doSell_5 := dk_seg dksX0_doSell_4 23 rfl rfl
theorem dksX0_doSell_6 : cX0_doSell.data.toList.drop 140 = dktX0_doSell_6 := dk_seg dksX0_doSell_5 23 rfl rfl
theorem dksX0_doSell_7 : cX0_doSell.data.toList.drop 164 = dktX0_doSell_7 := dk_seg dksX0_doSell_6 24 rfl rfl
theorem dksX0_doSell_8 : cX0_doSell.data.toList.drop 188 = dktX0_doSell_8 := dk_seg dksX0_doSell_7 24 rfl rfl
theorem dX0_doSell_0 : decode cX0_doSell 0 = .ok (.iload_n 1, 1) := dk_27 (dk_at dksX0_doSell_0 0 rfl rfl)
theorem dX0_doSell_1 : decode cX0_doSell 1 = .ok (.invokestatic 89, 3) := dk_184 0 89 (dk_at dksX0_doSell_0 1 rfl rfl)
theorem dX0_doSell_4 : decode cX0_doSell 4 = .ok (.iconst (-1), 1) := dk_2 (dk_at dksX0_doSell_0 4 rfl rfl)
theorem dX0_doSell_5 : decode cX0_doSell 5 = .ok (.invokestatic 93, 3) := dk_184 0 93 (dk_at dksX0_doSell_0 5 rfl rfl)
theorem dX0_doSell_8 : decode cX0_doSell 8 = .ok (.iconst 2, 1) := dk_5 (dk_at dksX0_doSell_0 8 rfl rfl)
theorem dX0_doSell_9 : decode cX0_doSell 9 = .ok (.newarray .boolean, 2) := dk_188_4 (dk_at dksX0_doSell_0 9 rfl rfl)
theorem dX0_doSell_11 : decode cX0_doSell 11 = .ok (.dup, 1) := dk_89 (dk_at dksX0_doSell_0 11 rfl rfl)
theorem dX0_doSell_12 : decode cX0_doSell 12 = .ok (.iconst 0, 1) := dk_3 (dk_at dksX0_doSell_0 12 rfl rfl)
theorem dX0_doSell_13 : decode cX0_doSell 13 = .ok (.iload_n 2, 1) := dk_28 (dk_at dksX0_doSell_0 13 rfl rfl)
theorem dX0_doSell_14 : decode cX0_doSell 14 = .ok (.iconst 1, 1) := dk_4 (dk_at dksX0_doSell_0 14 rfl rfl)
theorem dX0_doSell_15 : decode cX0_doSell 15 = .ok (.bipush 30, 2) := dk_16 30 (dk_at dksX0_doSell_0 15 rfl rfl)
theorem dX0_doSell_17 : decode cX0_doSell 17 = .ok (.invokestatic 82, 3) := dk_184 0 82 (dk_at dksX0_doSell_0 17 rfl rfl)
theorem dX0_doSell_20 : decode cX0_doSell 20 = .ok (.bastore, 1) := dk_84 (dk_at dksX0_doSell_0 20 rfl rfl)
theorem dX0_doSell_21 : decode cX0_doSell 21 = .ok (.dup, 1) := dk_89 (dk_at dksX0_doSell_0 21 rfl rfl)
theorem dX0_doSell_22 : decode cX0_doSell 22 = .ok (.iconst 1, 1) := dk_4 (dk_at dksX0_doSell_0 22 rfl rfl)
theorem dX0_doSell_23 : decode cX0_doSell 23 = .ok (.iload_n 3, 1) := dk_29 (dk_at dksX0_doSell_0 23 rfl rfl)
theorem dX0_doSell_24 : decode cX0_doSell 24 = .ok (.iconst 0, 1) := dk_3 (dk_at dksX0_doSell_1 0 rfl rfl)
theorem dX0_doSell_25 : decode cX0_doSell 25 = .ok (.iconst 1, 1) := dk_4 (dk_at dksX0_doSell_1 1 rfl rfl)
theorem dX0_doSell_26 : decode cX0_doSell 26 = .ok (.invokestatic 82, 3) := dk_184 0 82 (dk_at dksX0_doSell_1 2 rfl rfl)
theorem dX0_doSell_29 : decode cX0_doSell 29 = .ok (.bastore, 1) := dk_84 (dk_at dksX0_doSell_1 5 rfl rfl)
theorem dX0_doSell_30 : decode cX0_doSell 30 = .ok (.invokestatic 146, 3) := dk_184 0 146 (dk_at dksX0_doSell_1 6 rfl rfl)
theorem dX0_doSell_33 : decode cX0_doSell 33 = .ok (.bipush (-2), 2) := dk_16 254 (dk_at dksX0_doSell_1 9 rfl rfl)
theorem dX0_doSell_35 : decode cX0_doSell 35 = .ok (.invokestatic 93, 3) := dk_184 0 93 (dk_at dksX0_doSell_1 11 rfl rfl)
theorem dX0_doSell_38 : decode cX0_doSell 38 = .ok (.aload_n 0, 1) := dk_42 (dk_at dksX0_doSell_1 14 rfl rfl)
theorem dX0_doSell_39 : decode cX0_doSell 39 = .ok (.getfield 22, 3) := dk_180 0 22 (dk_at dksX0_doSell_1 15 rfl rfl)
theorem dX0_doSell_42 : decode cX0_doSell 42 = .ok (.getfield 226, 3) := dk_180 0 226 (dk_at dksX0_doSell_1 18 rfl rfl)
theorem dX0_doSell_45 : decode cX0_doSell 45 = .ok (.iload_n 1, 1) := dk_27 (dk_at dksX0_doSell_1 21 rfl rfl)
theorem dX0_doSell_46 : decode cX0_doSell 46 = .ok (.aaload, 1) := dk_50 (dk_at dksX0_doSell_1 22 rfl rfl)
theorem dX0_doSell_47 : decode cX0_doSell 47 = .ok (.astore 4, 2) := dk_58 4 (dk_at dksX0_doSell_2 0 rfl rfl)
theorem dX0_doSell_49 : decode cX0_doSell 49 = .ok (.iload_n 2, 1) := dk_28 (dk_at dksX0_doSell_2 2 rfl rfl)
theorem dX0_doSell_50 : decode cX0_doSell 50 = .ok (.iload_n 3, 1) := dk_29 (dk_at dksX0_doSell_2 3 rfl rfl)
theorem dX0_doSell_51 : decode cX0_doSell 51 = .ok (.iconst 1, 1) := dk_4 (dk_at dksX0_doSell_2 4 rfl rfl)
theorem dX0_doSell_52 : decode cX0_doSell 52 = .ok (.if_icmp .ne 8, 3) := dk_160 0 8 (dk_at dksX0_doSell_2 5 rfl rfl)
theorem dX0_doSell_55 : decode cX0_doSell 55 = .ok (.bipush 72, 2) := dk_16 72 (dk_at dksX0_doSell_2 8 rfl rfl)
theorem dX0_doSell_57 : decode cX0_doSell 57 = .ok (.goto 5, 3) := dk_167 0 5 (dk_at dksX0_doSell_2 10 rfl rfl)
theorem dX0_doSell_60 : decode cX0_doSell 60 = .ok (.bipush 64, 2) := dk_16 64 (dk_at dksX0_doSell_2 13 rfl rfl)
theorem dX0_doSell_62 : decode cX0_doSell 62 = .ok (.imul, 1) := dk_104 (dk_at dksX0_doSell_2 15 rfl rfl)
theorem dX0_doSell_63 : decode cX0_doSell 63 = .ok (.istore 5, 2) := dk_54 5 (dk_at dksX0_doSell_2 16 rfl rfl)
theorem dX0_doSell_65 : decode cX0_doSell 65 = .ok (.aload 4, 2) := dk_25 4 (dk_at dksX0_doSell_2 18 rfl rfl)
theorem dX0_doSell_67 : decode cX0_doSell 67 = .ok (.getfield 238, 3) := dk_180 0 238 (dk_at dksX0_doSell_2 20 rfl rfl)
theorem dX0_doSell_70 : decode cX0_doSell 70 = .ok (.iload 5, 2) := dk_21 5 (dk_at dksX0_doSell_3 0 rfl rfl)
theorem dX0_doSell_72 : decode cX0_doSell 72 = .ok (.if_icmp .ge 54, 3) := dk_162 0 54 (dk_at dksX0_doSell_3 2 rfl rfl)
theorem dX0_doSell_75 : decode cX0_doSell 75 = .ok (.aload_n 0, 1) := dk_42 (dk_at dksX0_doSell_3 5 rfl rfl)
theorem dX0_doSell_76 : decode cX0_doSell 76 = .ok (.getfield 22, 3) := dk_180 0 22 (dk_at dksX0_doSell_3 6 rfl rfl)
theorem dX0_doSell_79 : decode cX0_doSell 79 = .ok (.getfield 241, 3) := dk_180 0 241 (dk_at dksX0_doSell_3 9 rfl rfl)
theorem dX0_doSell_82 : decode cX0_doSell 82 = .ok (.iconst 4, 1) := dk_7 (dk_at dksX0_doSell_3 12 rfl rfl)
theorem dX0_doSell_83 : decode cX0_doSell 83 = .ok (.iload_n 1, 1) := dk_27 (dk_at dksX0_doSell_3 13 rfl rfl)
theorem dX0_doSell_84 : decode cX0_doSell 84 = .ok (.iadd, 1) := dk_96 (dk_at dksX0_doSell_3 14 rfl rfl)
theorem dX0_doSell_85 : decode cX0_doSell 85 = .ok (.aaload, 1) := dk_50 (dk_at dksX0_doSell_3 15 rfl rfl)
theorem dX0_doSell_86 : decode cX0_doSell 86 = .ok (.getfield 245, 3) := dk_180 0 245 (dk_at dksX0_doSell_3 16 rfl rfl)
theorem dX0_doSell_89 : decode cX0_doSell 89 = .ok (.istore 6, 2) := dk_54 6 (dk_at dksX0_doSell_3 19 rfl rfl)
theorem dX0_doSell_91 : decode cX0_doSell 91 = .ok (.new 9, 3) := dk_187 0 9 (dk_at dksX0_doSell_3 21 rfl rfl)
theorem dX0_doSell_94 : decode cX0_doSell 94 = .ok (.dup, 1) := dk_89 (dk_at dksX0_doSell_4 0 rfl rfl)
theorem dX0_doSell_95 : decode cX0_doSell 95 = .ok (.bipush 8, 2) := dk_16 8 (dk_at dksX0_doSell_4 1 rfl rfl)
theorem dX0_doSell_97 : decode cX0_doSell 97 = .ok (.aload 4, 2) := dk_25 4 (dk_at dksX0_doSell_4 3 rfl rfl)
theorem dX0_doSell_99 : decode cX0_doSell 99 = .ok (.getfield 238, 3) := dk_180 0 238 (dk_at dksX0_doSell_4 5 rfl rfl)
theorem dX0_doSell_102 : decode cX0_doSell 102 = .ok (.iload 6, 2) := dk_21 6 (dk_at dksX0_doSell_4 8 rfl rfl)
theorem dX0_doSell_104 : decode cX0_doSell 104 = .ok (.ifCond .ne 7, 3) := dk_154 0 7 (dk_at dksX0_doSell_4 10 rfl rfl)
theorem dX0_doSell_107 : decode cX0_doSell 107 = .ok (.aconst_null, 1) := dk_1 (dk_at dksX0_doSell_4 13 rfl rfl)
theorem dX0_doSell_108 : decode cX0_doSell 108 = .ok (.goto 14, 3) := dk_167 0 14 (dk_at dksX0_doSell_4 14 rfl rfl)
theorem dX0_doSell_111 : decode cX0_doSell 111 = .ok (.new 9, 3) := dk_187 0 9 (dk_at dksX0_doSell_4 17 rfl rfl)
theorem dX0_doSell_114 : decode cX0_doSell 114 = .ok (.dup, 1) := dk_89 (dk_at dksX0_doSell_4 20 rfl rfl)
theorem dX0_doSell_115 : decode cX0_doSell 115 = .ok (.bipush 13, 2) := dk_16 13 (dk_at dksX0_doSell_4 21 rfl rfl)
theorem dX0_doSell_117 : decode cX0_doSell 117 = .ok (.iload 6, 2) := dk_21 6 (dk_at dksX0_doSell_5 0 rfl rfl)
theorem dX0_doSell_119 : decode cX0_doSell 119 = .ok (.invokespecial 11, 3) := dk_183 0 11 (dk_at dksX0_doSell_5 2 rfl rfl)
theorem dX0_doSell_122 : decode cX0_doSell 122 = .ok (.invokespecial 161, 3) := dk_183 0 161 (dk_at dksX0_doSell_5 5 rfl rfl)
theorem dX0_doSell_125 : decode cX0_doSell 125 = .ok (.athrow, 1) := dk_191 (dk_at dksX0_doSell_5 8 rfl rfl)
theorem dX0_doSell_126 : decode cX0_doSell 126 = .ok (.iload_n 2, 1) := dk_28 (dk_at dksX0_doSell_5 9 rfl rfl)
theorem dX0_doSell_127 : decode cX0_doSell 127 = .ok (.aload 4, 2) := dk_25 4 (dk_at dksX0_doSell_5 10 rfl rfl)
theorem dX0_doSell_129 : decode cX0_doSell 129 = .ok (.getfield 230, 3) := dk_180 0 230 (dk_at dksX0_doSell_5 12 rfl rfl)
theorem dX0_doSell_132 : decode cX0_doSell 132 = .ok (.iload_n 3, 1) := dk_29 (dk_at dksX0_doSell_5 15 rfl rfl)
theorem dX0_doSell_133 : decode cX0_doSell 133 = .ok (.iadd, 1) := dk_96 (dk_at dksX0_doSell_5 16 rfl rfl)
theorem dX0_doSell_134 : decode cX0_doSell 134 = .ok (.imul, 1) := dk_104 (dk_at dksX0_doSell_5 17 rfl rfl)
theorem dX0_doSell_135 : decode cX0_doSell 135 = .ok (.istore 6, 2) := dk_54 6 (dk_at dksX0_doSell_5 18 rfl rfl)
theorem dX0_doSell_137 : decode cX0_doSell 137 = .ok (.aload 4, 2) := dk_25 4 (dk_at dksX0_doSell_5 20 rfl rfl)
theorem dX0_doSell_139 : decode cX0_doSell 139 = .ok (.dup, 1) := dk_89 (dk_at dksX0_doSell_5 22 rfl rfl)
theorem dX0_doSell_140 : decode cX0_doSell 140 = .ok (.getfield 238, 3) := dk_180 0 238 (dk_at dksX0_doSell_6 0 rfl rfl)
theorem dX0_doSell_143 : decode cX0_doSell 143 = .ok (.iload 5, 2) := dk_21 5 (dk_at dksX0_doSell_6 3 rfl rfl)
theorem dX0_doSell_145 : decode cX0_doSell 145 = .ok (.isub, 1) := dk_100 (dk_at dksX0_doSell_6 5 rfl rfl)
theorem dX0_doSell_146 : decode cX0_doSell 146 = .ok (.putfield 238, 3) := dk_181 0 238 (dk_at dksX0_doSell_6 6 rfl rfl)
theorem dX0_doSell_149 : decode cX0_doSell 149 = .ok (.aload 4, 2) := dk_25 4 (dk_at dksX0_doSell_6 9 rfl rfl)
theorem dX0_doSell_151 : decode cX0_doSell 151 = .ok (.dup, 1) := dk_89 (dk_at dksX0_doSell_6 11 rfl rfl)
theorem dX0_doSell_152 : decode cX0_doSell 152 = .ok (.getfield 250, 3) := dk_180 0 250 (dk_at dksX0_doSell_6 12 rfl rfl)
theorem dX0_doSell_155 : decode cX0_doSell 155 = .ok (.iload 5, 2) := dk_21 5 (dk_at dksX0_doSell_6 15 rfl rfl)
theorem dX0_doSell_157 : decode cX0_doSell 157 = .ok (.iadd, 1) := dk_96 (dk_at dksX0_doSell_6 17 rfl rfl)
theorem dX0_doSell_158 : decode cX0_doSell 158 = .ok (.putfield 250, 3) := dk_181 0 250 (dk_at dksX0_doSell_6 18 rfl rfl)
theorem dX0_doSell_161 : decode cX0_doSell 161 = .ok (.aload 4, 2) := dk_25 4 (dk_at dksX0_doSell_6 21 rfl rfl)
theorem dX0_doSell_163 : decode cX0_doSell 163 = .ok (.dup, 1) := dk_89 (dk_at dksX0_doSell_6 23 rfl rfl)
theorem dX0_doSell_164 : decode cX0_doSell 164 = .ok (.getfield 253, 3) := dk_180 0 253 (dk_at dksX0_doSell_7 0 rfl rfl)
theorem dX0_doSell_167 : decode cX0_doSell 167 = .ok (.iload_n 2, 1) := dk_28 (dk_at dksX0_doSell_7 3 rfl rfl)
theorem dX0_doSell_168 : decode cX0_doSell 168 = .ok (.iadd, 1) := dk_96 (dk_at dksX0_doSell_7 4 rfl rfl)
theorem dX0_doSell_169 : decode cX0_doSell 169 = .ok (.putfield 253, 3) := dk_181 0 253 (dk_at dksX0_doSell_7 5 rfl rfl)
theorem dX0_doSell_172 : decode cX0_doSell 172 = .ok (.aload_n 0, 1) := dk_42 (dk_at dksX0_doSell_7 8 rfl rfl)
theorem dX0_doSell_173 : decode cX0_doSell 173 = .ok (.getfield 22, 3) := dk_180 0 22 (dk_at dksX0_doSell_7 9 rfl rfl)
theorem dX0_doSell_176 : decode cX0_doSell 176 = .ok (.dup, 1) := dk_89 (dk_at dksX0_doSell_7 12 rfl rfl)
theorem dX0_doSell_177 : decode cX0_doSell 177 = .ok (.getfield 256, 3) := dk_180 1 0 (dk_at dksX0_doSell_7 13 rfl rfl)
theorem dX0_doSell_180 : decode cX0_doSell 180 = .ok (.iload 6, 2) := dk_21 6 (dk_at dksX0_doSell_7 16 rfl rfl)
theorem dX0_doSell_182 : decode cX0_doSell 182 = .ok (.iadd, 1) := dk_96 (dk_at dksX0_doSell_7 18 rfl rfl)
theorem dX0_doSell_183 : decode cX0_doSell 183 = .ok (.putfield 256, 3) := dk_181 1 0 (dk_at dksX0_doSell_7 19 rfl rfl)
theorem dX0_doSell_186 : decode cX0_doSell 186 = .ok (.iload 6, 2) := dk_21 6 (dk_at dksX0_doSell_7 22 rfl rfl)
theorem dX0_doSell_188 : decode cX0_doSell 188 = .ok (.ireturn, 1) := dk_172 (dk_at dksX0_doSell_8 0 rfl rfl)
def dkwX0_settle_0 : List UInt8 := [42, 182, 0, 110, 42, 42, 27, 28, 182, 1, 6, 182, 0, 117, 172, 78, 42, 45, 182, 0, 120, 172]
abbrev dktX0_settle_0 : List UInt8 := dkwX0_settle_0 ++ []
theorem dksX0_settle_0 : cX0_settle.data.toList.drop 0 = dktX0_settle_0 := by decide +kernel
theorem dX0_settle_0 : decode cX0_settle 0 = .ok (.aload_n 0, 1) := dk_42 (dk_at dksX0_settle_0 0 rfl rfl)
theorem dX0_settle_1 : decode cX0_settle 1 = .ok (.invokevirtual 110, 3) := dk_182 0 110 (dk_at dksX0_settle_0 1 rfl rfl)
theorem dX0_settle_4 : decode cX0_settle 4 = .ok (.aload_n 0, 1) := dk_42 (dk_at dksX0_settle_0 4 rfl rfl)
theorem dX0_settle_5 : decode cX0_settle 5 = .ok (.aload_n 0, 1) := dk_42 (dk_at dksX0_settle_0 5 rfl rfl)
theorem dX0_settle_6 : decode cX0_settle 6 = .ok (.iload_n 1, 1) := dk_27 (dk_at dksX0_settle_0 6 rfl rfl)
theorem dX0_settle_7 : decode cX0_settle 7 = .ok (.iload_n 2, 1) := dk_28 (dk_at dksX0_settle_0 7 rfl rfl)
theorem dX0_settle_8 : decode cX0_settle 8 = .ok (.invokevirtual 262, 3) := dk_182 1 6 (dk_at dksX0_settle_0 8 rfl rfl)
theorem dX0_settle_11 : decode cX0_settle 11 = .ok (.invokevirtual 117, 3) := dk_182 0 117 (dk_at dksX0_settle_0 11 rfl rfl)
theorem dX0_settle_14 : decode cX0_settle 14 = .ok (.ireturn, 1) := dk_172 (dk_at dksX0_settle_0 14 rfl rfl)
theorem dX0_settle_15 : decode cX0_settle 15 = .ok (.astore_n 3, 1) := dk_78 (dk_at dksX0_settle_0 15 rfl rfl)
theorem dX0_settle_16 : decode cX0_settle 16 = .ok (.aload_n 0, 1) := dk_42 (dk_at dksX0_settle_0 16 rfl rfl)
theorem dX0_settle_17 : decode cX0_settle 17 = .ok (.aload_n 3, 1) := dk_45 (dk_at dksX0_settle_0 17 rfl rfl)
theorem dX0_settle_18 : decode cX0_settle 18 = .ok (.invokevirtual 120, 3) := dk_182 0 120 (dk_at dksX0_settle_0 18 rfl rfl)
theorem dX0_settle_21 : decode cX0_settle 21 = .ok (.ireturn, 1) := dk_172 (dk_at dksX0_settle_0 21 rfl rfl)
def dkwX0_doSettle_4 : List UInt8 := [180, 0, 22, 89, 180, 1, 0, 28, 96, 181, 1, 0, 45, 180, 0, 158, 172]
abbrev dktX0_doSettle_4 : List UInt8 := dkwX0_doSettle_4 ++ []
def dkwX0_doSettle_3 : List UInt8 := [16, 10, 45, 180, 0, 158, 184, 0, 97, 45, 89, 180, 0, 158, 28, 5, 108, 100, 181, 0, 158, 42]
abbrev dktX0_doSettle_3 : List UInt8 := dkwX0_doSettle_3 ++ dktX0_doSettle_4
def dkwX0_doSettle_2 : List UInt8 := [180, 0, 22, 180, 0, 101, 27, 50, 78, 28, 5, 108, 45, 180, 0, 158, 163, 0, 7, 4, 167, 0, 4, 3]
abbrev dktX0_doSettle_2 : List UInt8 := dkwX0_doSettle_2 ++ dktX0_doSettle_3
def dkwX0_doSettle_1 : List UInt8 := [4, 28, 5, 112, 154, 0, 7, 4, 167, 0, 4, 3, 84, 184, 0, 146, 16, 254, 184, 0, 93, 42]
abbrev dktX0_doSettle_1 : List UInt8 := dkwX0_doSettle_1 ++ dktX0_doSettle_2
def dkwX0_doSettle_0 : List UInt8 := [42, 27, 182, 0, 124, 2, 184, 0, 93, 5, 188, 4, 89, 3, 28, 5, 17, 3, 230, 184, 0, 82, 84, 89]
abbrev dktX0_doSettle_0 : List UInt8 := dkwX0_doSettle_0 ++ dktX0_doSettle_1
theorem dksX0_doSettle_0 : cX0_doSettle.data.toList.drop 0 = dktX0_doSettle_0 := by decide +kernel
theorem dksX0_doSettle_1 : cX0_doSettle.data.toList.drop 24 = dktX0_doSettle_1 := dk_seg dksX0_doSettle_0 24 rfl rfl
theorem dksX0_doSettle_2 : cX0_doSettle.data.toList.drop 46 = dktX0_doSettle_2 := dk_seg dksX0_doSettle_1 22 rfl rfl
theorem dksX0_doSettle_3 : cX0_doSettle.data.toList.drop 70 = dktX0_doSettle_3 := dk_seg dksX0_doSettle_2 24 rfl rfl
theorem dksX0_doSettle_4 : cX0_doSettle.data.toList.drop 92 = dktX0_doSettle_4 := dk_seg dksX0_doSettle_3 22 rfl rfl
theorem dX0_doSettle_0 : decode cX0_doSettle 0 = .ok (.aload_n 0, 1) := dk_42 (dk_at dksX0_doSettle_0 0 rfl rfl)
theorem dX0_doSettle_1 : decode cX0_doSettle 1 = .ok (.iload_n 1, 1) := dk_27 (dk_at dksX0_doSettle_0 1 rfl rfl)
theorem dX0_doSettle_2 : decode cX0_doSettle 2 = .ok (.invokevirtual 124, 3) := dk_182 0 124 (dk_at dksX0_doSettle_0 2 rfl rfl)
theorem dX0_doSettle_5 : decode cX0_doSettle 5 = .ok (.iconst (-1), 1) := dk_2 (dk_at dksX0_doSettle_0 5 rfl rfl)
theorem dX0_doSettle_6 : decode cX0_doSettle 6 = .ok (.invokestatic 93, 3) := dk_184 0 93 (dk_at dksX0_doSettle_0 6 rfl rfl)
theorem dX0_doSettle_9 : decode cX0_doSettle 9 = .ok (.iconst 2, 1) := dk_5 (dk_at dksX0_doSettle_0 9 rfl rfl)
theorem dX0_doSettle_10 : decode cX0_doSettle 10 = .ok (.newarray .boolean, 2) := dk_188_4 (dk_at dksX0_doSettle_0 10 rfl rfl)
theorem dX0_doSettle_12 : decode cX0_doSettle 12 = .ok (.dup, 1) := dk_89 (dk_at dksX0_doSettle_0 12 rfl rfl)
theorem dX0_doSettle_13 : decode cX0_doSettle 13 = .ok (.iconst 0, 1) := dk_3 (dk_at dksX0_doSettle_0 13 rfl rfl)
theorem dX0_doSettle_14 : decode cX0_doSettle 14 = .ok (.iload_n 2, 1) := dk_28 (dk_at dksX0_doSettle_0 14 rfl rfl)
theorem dX0_doSettle_15 : decode cX0_doSettle 15 = .ok (.iconst 2, 1) := dk_5 (dk_at dksX0_doSettle_0 15 rfl rfl)
theorem dX0_doSettle_16 : decode cX0_doSettle 16 = .ok (.sipush 998, 3) := dk_17 3 230 (dk_at dksX0_doSettle_0 16 rfl rfl)
theorem dX0_doSettle_19 : decode cX0_doSettle 19 = .ok (.invokestatic 82, 3) := dk_184 0 82 (dk_at dksX0_doSettle_0 19 rfl rfl)
theorem dX0_doSettle_22 : decode cX0_doSettle 22 = .ok (.bastore, 1) := dk_84 (dk_at dksX0_doSettle_0 22 rfl rfl)
theorem dX0_doSettle_23 : decode cX0_doSettle 23 = .ok (.dup, 1) := dk_89 (dk_at dksX0_doSettle_0 23 rfl rfl)
theorem dX0_doSettle_24 : decode cX0_doSettle 24 = .ok (.iconst 1, 1) := dk_4 (dk_at dksX0_doSettle_1 0 rfl rfl)
theorem dX0_doSettle_25 : decode cX0_doSettle 25 = .ok (.iload_n 2, 1) := dk_28 (dk_at dksX0_doSettle_1 1 rfl rfl)
theorem dX0_doSettle_26 : decode cX0_doSettle 26 = .ok (.iconst 2, 1) := dk_5 (dk_at dksX0_doSettle_1 2 rfl rfl)
theorem dX0_doSettle_27 : decode cX0_doSettle 27 = .ok (.irem, 1) := dk_112 (dk_at dksX0_doSettle_1 3 rfl rfl)
theorem dX0_doSettle_28 : decode cX0_doSettle 28 = .ok (.ifCond .ne 7, 3) := dk_154 0 7 (dk_at dksX0_doSettle_1 4 rfl rfl)
theorem dX0_doSettle_31 : decode cX0_doSettle 31 = .ok (.iconst 1, 1) := dk_4 (dk_at dksX0_doSettle_1 7 rfl rfl)
theorem dX0_doSettle_32 : decode cX0_doSettle 32 = .ok (.goto 4, 3) := dk_167 0 4 (dk_at dksX0_doSettle_1 8 rfl rfl)
theorem dX0_doSettle_35 : decode cX0_doSettle 35 = .ok (.iconst 0, 1) := dk_3 (dk_at dksX0_doSettle_1 11 rfl rfl)
theorem dX0_doSettle_36 : decode cX0_doSettle 36 = .ok (.bastore, 1) := dk_84 (dk_at dksX0_doSettle_1 12 rfl rfl)
theorem dX0_doSettle_37 : decode cX0_doSettle 37 = .ok (.invokestatic 146, 3) := dk_184 0 146 (dk_at dksX0_doSettle_1 13 rfl rfl)
theorem dX0_doSettle_40 : decode cX0_doSettle 40 = .ok (.bipush (-2), 2) := dk_16 254 (dk_at dksX0_doSettle_1 16 rfl rfl)
theorem dX0_doSettle_42 : decode cX0_doSettle 42 = .ok (.invokestatic 93, 3) := dk_184 0 93 (dk_at dksX0_doSettle_1 18 rfl rfl)
theorem dX0_doSettle_45 : decode cX0_doSettle 45 = .ok (.aload_n 0, 1) := dk_42 (dk_at dksX0_doSettle_1 21 rfl rfl)
theorem dX0_doSettle_46 : decode cX0_doSettle 46 = .ok (.getfield 22, 3) := dk_180 0 22 (dk_at dksX0_doSettle_2 0 rfl rfl)
theorem dX0_doSettle_49 : decode cX0_doSettle 49 = .ok (.getfield 101, 3) := dk_180 0 101 (dk_at dksX0_doSettle_2 3 rfl rfl)
theorem dX0_doSettle_52 : decode cX0_doSettle 52 = .ok (.iload_n 1, 1) := dk_27 (dk_at dksX0_doSettle_2 6 rfl rfl)
theorem dX0_doSettle_53 : decode cX0_doSettle 53 = .ok (.aaload, 1) := dk_50 (dk_at dksX0_doSettle_2 7 rfl rfl)
theorem dX0_doSettle_54 : decode cX0_doSettle 54 = .ok (.astore_n 3, 1) := dk_78 (dk_at dksX0_doSettle_2 8 rfl rfl)
theorem dX0_doSettle_55 : decode cX0_doSettle 55 = .ok (.iload_n 2, 1) := dk_28 (dk_at dksX0_doSettle_2 9 rfl rfl)
theorem dX0_doSettle_56 : decode cX0_doSettle 56 = .ok (.iconst 2, 1) := dk_5 (dk_at dksX0_doSettle_2 10 rfl rfl)
theorem dX0_doSettle_57 : decode cX0_doSettle 57 = .ok (.idiv, 1) := dk_108 (dk_at dksX0_doSettle_2 11 rfl rfl)
theorem dX0_doSettle_58 : decode cX0_doSettle 58 = .ok (.aload_n 3, 1) := dk_45 (dk_at dksX0_doSettle_2 12 rfl rfl)
theorem dX0_doSettle_59 : decode cX0_doSettle 59 = .ok (.getfield 158, 3) := dk_180 0 158 (dk_at dksX0_doSettle_2 13 rfl rfl)
theorem dX0_doSettle_62 : decode cX0_doSettle 62 = .ok (.if_icmp .gt 7, 3) := dk_163 0 7 (dk_at dksX0_doSettle_2 16 rfl rfl)
theorem dX0_doSettle_65 : decode cX0_doSettle 65 = .ok (.iconst 1, 1) := dk_4 (dk_at dksX0_doSettle_2 19 rfl rfl)
theorem dX0_doSettle_66 : decode cX0_doSettle 66 = .ok (.goto 4, 3) := dk_167 0 4 (dk_at dksX0_doSettle_2 20 rfl rfl)
theorem dX0_doSettle_69 : decode cX0_doSettle 69 = .ok (.iconst 0, 1) := dk_3 (dk_at dksX0_doSettle_2 23 rfl rfl)
theorem dX0_doSettle_70 : decode cX0_doSettle 70 = .ok (.bipush 10, 2) := dk_16 10 (dk_at dksX0_doSettle_3 0 rfl rfl)
theorem dX0_doSettle_72 : decode cX0_doSettle 72 = .ok (.aload_n 3, 1) := dk_45 (dk_at dksX0_doSettle_3 2 rfl rfl)
theorem dX0_doSettle_73 : decode cX0_doSettle 73 = .ok (.getfield 158, 3) := dk_180 0 158 (dk_at dksX0_doSettle_3 3 rfl rfl)
theorem dX0_doSettle_76 : decode cX0_doSettle 76 = .ok (.invokestatic 97, 3) := dk_184 0 97 (dk_at dksX0_doSettle_3 6 rfl rfl)
theorem dX0_doSettle_79 : decode cX0_doSettle 79 = .ok (.aload_n 3, 1) := dk_45 (dk_at dksX0_doSettle_3 9 rfl rfl)
theorem dX0_doSettle_80 : decode cX0_doSettle 80 = .ok (.dup, 1) := dk_89 (dk_at dksX0_doSettle_3 10 rfl rfl)
theorem dX0_doSettle_81 : decode cX0_doSettle 81 = .ok (.getfield 158, 3) := dk_180 0 158 (dk_at dksX0_doSettle_3 11 rfl rfl)
theorem dX0_doSettle_84 : decode cX0_doSettle 84 = .ok (.iload_n 2, 1) := dk_28 (dk_at dksX0_doSettle_3 14 rfl rfl)
theorem dX0_doSettle_85 : decode cX0_doSettle 85 = .ok (.iconst 2, 1) := dk_5 (dk_at dksX0_doSettle_3 15 rfl rfl)
theorem dX0_doSettle_86 : decode cX0_doSettle 86 = .ok (.idiv, 1) := dk_108 (dk_at dksX0_doSettle_3 16 rfl rfl)
theorem dX0_doSettle_87 : decode cX0_doSettle 87 = .ok (.isub, 1) := dk_100 (dk_at dksX0_doSettle_3 17 rfl rfl)
theorem dX0_doSettle_88 : decode cX0_doSettle 88 = .ok (.putfield 158, 3) := dk_181 0 158 (dk_at dksX0_doSettle_3 18 rfl rfl)
theorem dX0_doSettle_91 : decode cX0_doSettle 91 = .ok (.aload_n 0, 1) := dk_42 (dk_at dksX0_doSettle_3 21 rfl rfl)
theorem dX0_doSettle_92 : decode cX0_doSettle 92 = .ok (.getfield 22, 3) := dk_180 0 22 (dk_at dksX0_doSettle_4 0 rfl rfl)
theorem dX0_doSettle_95 : decode cX0_doSettle 95 = .ok (.dup, 1) := dk_89 (dk_at dksX0_doSettle_4 3 rfl rfl)
theorem dX0_doSettle_96 : decode cX0_doSettle 96 = .ok (.getfield 256, 3) := dk_180 1 0 (dk_at dksX0_doSettle_4 4 rfl rfl)
theorem dX0_doSettle_99 : decode cX0_doSettle 99 = .ok (.iload_n 2, 1) := dk_28 (dk_at dksX0_doSettle_4 7 rfl rfl)
theorem dX0_doSettle_100 : decode cX0_doSettle 100 = .ok (.iadd, 1) := dk_96 (dk_at dksX0_doSettle_4 8 rfl rfl)
theorem dX0_doSettle_101 : decode cX0_doSettle 101 = .ok (.putfield 256, 3) := dk_181 1 0 (dk_at dksX0_doSettle_4 9 rfl rfl)
theorem dX0_doSettle_104 : decode cX0_doSettle 104 = .ok (.aload_n 3, 1) := dk_45 (dk_at dksX0_doSettle_4 12 rfl rfl)
theorem dX0_doSettle_105 : decode cX0_doSettle 105 = .ok (.getfield 158, 3) := dk_180 0 158 (dk_at dksX0_doSettle_4 13 rfl rfl)
theorem dX0_doSettle_108 : decode cX0_doSettle 108 = .ok (.ireturn, 1) := dk_172 (dk_at dksX0_doSettle_4 16 rfl rfl)
def dkwX0_stop_0 : List UInt8 := [42, 182, 0, 110, 42, 42, 27, 182, 1, 15, 182, 0, 117, 172, 77, 42, 44, 182, 0, 120, 172]
abbrev dktX0_stop_0 : List UInt8 := dkwX0_stop_0 ++ []
theorem dksX0_stop_0 : cX0_stop.data.toList.drop 0 = dktX0_stop_0 := by decide +kernel
theorem dX0_stop_0 : decode cX0_stop 0 = .ok (.aload_n 0, 1) := dk_42 (dk_at dksX0_stop_0 0 rfl rfl)
theorem dX0_stop_1 : decode cX0_stop 1 = .ok (.invokevirtual 110, 3) := dk_182 0 110 (dk_at dksX0_stop_0 1 rfl rfl)
theorem dX0_stop_4 : decode cX0_stop 4 = .ok (.aload_n 0, 1) := dk_42 (dk_at dksX0_stop_0 4 rfl rfl)
theorem dX0_stop_5 : decode cX0_stop 5 = .ok (.aload_n 0, 1) := dk_42 (dk_at dksX0_stop_0 5 rfl rfl)
theorem dX0_stop_6 : decode cX0_stop 6 = .ok (.iload_n 1, 1) := dk_27 (dk_at dksX0_stop_0 6 rfl rfl)
theorem dX0_stop_7 : decode cX0_stop 7 = .ok (.invokevirtual 271, 3) := dk_182 1 15 (dk_at dksX0_stop_0 7 rfl rfl)
theorem dX0_stop_10 : decode cX0_stop 10 = .ok (.invokevirtual 117, 3) := dk_182 0 117 (dk_at dksX0_stop_0 10 rfl rfl)
theorem dX0_stop_13 : decode cX0_stop 13 = .ok (.ireturn, 1) := dk_172 (dk_at dksX0_stop_0 13 rfl rfl)
theorem dX0_stop_14 : decode cX0_stop 14 = .ok (.astore_n 2, 1) := dk_77 (dk_at dksX0_stop_0 14 rfl rfl)
theorem dX0_stop_15 : decode cX0_stop 15 = .ok (.aload_n 0, 1) := dk_42 (dk_at dksX0_stop_0 15 rfl rfl)
theorem dX0_stop_16 : decode cX0_stop 16 = .ok (.aload_n 2, 1) := dk_44 (dk_at dksX0_stop_0 16 rfl rfl)
theorem dX0_stop_17 : decode cX0_stop 17 = .ok (.invokevirtual 120, 3) := dk_182 0 120 (dk_at dksX0_stop_0 17 rfl rfl)
theorem dX0_stop_20 : decode cX0_stop 20 = .ok (.ireturn, 1) := dk_172 (dk_at dksX0_stop_0 20 rfl rfl)
def dkwX0_doStop_2 : List UInt8 := [100, 181, 1, 12, 42, 180, 0, 22, 180, 0, 241, 27, 50, 180, 1, 12, 172]
abbrev dktX0_doStop_2 : List UInt8 := dkwX0_doStop_2 ++ []
def dkwX0_doStop_1 : List UInt8 := [167, 0, 4, 3, 16, 9, 27, 184, 0, 97, 42, 180, 0, 22, 180, 0, 241, 27, 50, 89, 180, 1, 12, 4]
abbrev dktX0_doStop_1 : List UInt8 := dkwX0_doStop_1 ++ dktX0_doStop_2
def dkwX0_doStop_0 : List UInt8 := [27, 184, 1, 9, 2, 184, 0, 93, 42, 180, 0, 22, 180, 0, 241, 27, 50, 180, 1, 12, 158, 0, 7, 4]
abbrev dktX0_doStop_0 : List UInt8 := dkwX0_doStop_0 ++ dktX0_doStop_1
theorem dksX0_doStop_0 : cX0_doStop.data.toList.drop 0 = dktX0_doStop_0 := by decide +kernel
theorem dksX0_doStop_1 : cX0_doStop.data.toList.drop 24 = dktX0_doStop_1 := dk_seg dksX0_doStop_0 24 rfl rfl
theorem dksX0_doStop_2 : cX0_doStop.data.toList.drop 48 = dktX0_doStop_2 := dk_seg dksX0_doStop_1 24 rfl rfl
theorem dX0_doStop_0 : decode cX0_doStop 0 = .ok (.iload_n 1, 1) := dk_27 (dk_at dksX0_doStop_0 0 rfl rfl)
theorem dX0_doStop_1 : decode cX0_doStop 1 = .ok (.invokestatic 265, 3) := dk_184 1 9 (dk_at dksX0_doStop_0 1 rfl rfl)
theorem dX0_doStop_4 : decode cX0_doStop 4 = .ok (.iconst (-1), 1) := dk_2 (dk_at dksX0_doStop_0 4 rfl rfl)
theorem dX0_doStop_5 : decode cX0_doStop 5 = .ok (.invokestatic 93, 3) := dk_184 0 93 (dk_at dksX0_doStop_0 5 rfl rfl)
theorem dX0_doStop_8 : decode cX0_doStop 8 = .ok (.aload_n 0, 1) := dk_42 (dk_at dksX0_doStop_0 8 rfl rfl)
theorem dX0_doStop_9 : decode cX0_doStop 9 = .ok (.getfield 22, 3) := dk_180 0 22 (dk_at dksX0_doStop_0 9 rfl rfl)
theorem dX0_doStop_12 : decode cX0_doStop 12 = .ok (.getfield 241, 3) := dk_180 0 241 (dk_at dksX0_doStop_0 12 rfl rfl)
theorem dX0_doStop_15 : decode cX0_doStop 15 = .ok (.iload_n 1, 1) := dk_27 (dk_at dksX0_doStop_0 15 rfl rfl)
theorem dX0_doStop_16 : decode cX0_doStop 16 = .ok (.aaload, 1) := dk_50 (dk_at dksX0_doStop_0 16 rfl rfl)
theorem dX0_doStop_17 : decode cX0_doStop 17 = .ok (.getfield 268, 3) := dk_180 1 12 (dk_at dksX0_doStop_0 17 rfl rfl)
theorem dX0_doStop_20 : decode cX0_doStop 20 = .ok (.ifCond .le 7, 3) := dk_158 0 7 (dk_at dksX0_doStop_0 20 rfl rfl)
theorem dX0_doStop_23 : decode cX0_doStop 23 = .ok (.iconst 1, 1) := dk_4 (dk_at dksX0_doStop_0 23 rfl rfl)
theorem dX0_doStop_24 : decode cX0_doStop 24 = .ok (.goto 4, 3) := dk_167 0 4 (dk_at dksX0_doStop_1 0 rfl rfl)
theorem dX0_doStop_27 : decode cX0_doStop 27 = .ok (.iconst 0, 1) := dk_3 (dk_at dksX0_doStop_1 3 rfl rfl)
theorem dX0_doStop_28 : decode cX0_doStop 28 = .ok (.bipush 9, 2) := dk_16 9 (dk_at dksX0_doStop_1 4 rfl rfl)
theorem dX0_doStop_30 : decode cX0_doStop 30 = .ok (.iload_n 1, 1) := dk_27 (dk_at dksX0_doStop_1 6 rfl rfl)
theorem dX0_doStop_31 : decode cX0_doStop 31 = .ok (.invokestatic 97, 3) := dk_184 0 97 (dk_at dksX0_doStop_1 7 rfl rfl)
theorem dX0_doStop_34 : decode cX0_doStop 34 = .ok (.aload_n 0, 1) := dk_42 (dk_at dksX0_doStop_1 10 rfl rfl)
theorem dX0_doStop_35 : decode cX0_doStop 35 = .ok (.getfield 22, 3) := dk_180 0 22 (dk_at dksX0_doStop_1 11 rfl rfl)
theorem dX0_doStop_38 : decode cX0_doStop 38 = .ok (.getfield 241, 3) := dk_180 0 241 (dk_at dksX0_doStop_1 14 rfl rfl)
theorem dX0_doStop_41 : decode cX0_doStop 41 = .ok (.iload_n 1, 1) := dk_27 (dk_at dksX0_doStop_1 17 rfl rfl)
theorem dX0_doStop_42 : decode cX0_doStop 42 = .ok (.aaload, 1) := dk_50 (dk_at dksX0_doStop_1 18 rfl rfl)
theorem dX0_doStop_43 : decode cX0_doStop 43 = .ok (.dup, 1) := dk_89 (dk_at dksX0_doStop_1 19 rfl rfl)
theorem dX0_doStop_44 : decode cX0_doStop 44 = .ok (.getfield 268, 3) := dk_180 1 12 (dk_at dksX0_doStop_1 20 rfl rfl)
theorem dX0_doStop_47 : decode cX0_doStop 47 = .ok (.iconst 1, 1) := dk_4 (dk_at dksX0_doStop_1 23 rfl rfl)
theorem dX0_doStop_48 : decode cX0_doStop 48 = .ok (.isub, 1) := dk_100 (dk_at dksX0_doStop_2 0 rfl rfl)
theorem dX0_doStop_49 : decode cX0_doStop 49 = .ok (.putfield 268, 3) := dk_181 1 12 (dk_at dksX0_doStop_2 1 rfl rfl)
theorem dX0_doStop_52 : decode cX0_doStop 52 = .ok (.aload_n 0, 1) := dk_42 (dk_at dksX0_doStop_2 4 rfl rfl)
theorem dX0_doStop_53 : decode cX0_doStop 53 = .ok (.getfield 22, 3) := dk_180 0 22 (dk_at dksX0_doStop_2 5 rfl rfl)
theorem dX0_doStop_56 : decode cX0_doStop 56 = .ok (.getfield 241, 3) := dk_180 0 241 (dk_at dksX0_doStop_2 8 rfl rfl)
theorem dX0_doStop_59 : decode cX0_doStop 59 = .ok (.iload_n 1, 1) := dk_27 (dk_at dksX0_doStop_2 11 rfl rfl)
theorem dX0_doStop_60 : decode cX0_doStop 60 = .ok (.aaload, 1) := dk_50 (dk_at dksX0_doStop_2 12 rfl rfl)
theorem dX0_doStop_61 : decode cX0_doStop 61 = .ok (.getfield 268, 3) := dk_180 1 12 (dk_at dksX0_doStop_2 13 rfl rfl)
theorem dX0_doStop_64 : decode cX0_doStop 64 = .ok (.ireturn, 1) := dk_172 (dk_at dksX0_doStop_2 16 rfl rfl)
def dkwX0_isPlace_0 : List UInt8 := [26, 3, 16, 6, 184, 0, 82, 172]
abbrev dktX0_isPlace_0 : List UInt8 := dkwX0_isPlace_0 ++ []
theorem dksX0_isPlace_0 : cX0_isPlace.data.toList.drop 0 = dktX0_isPlace_0 := by decide +kernel
theorem dX0_isPlace_0 : decode cX0_isPlace 0 = .ok (.iload_n 0, 1) := dk_26 (dk_at dksX0_isPlace_0 0 rfl rfl)
theorem dX0_isPlace_1 : decode cX0_isPlace 1 = .ok (.iconst 0, 1) := dk_3 (dk_at dksX0_isPlace_0 1 rfl rfl)
theorem dX0_isPlace_2 : decode cX0_isPlace 2 = .ok (.bipush 6, 2) := dk_16 6 (dk_at dksX0_isPlace_0 2 rfl rfl)
theorem dX0_isPlace_4 : decode cX0_isPlace 4 = .ok (.invokestatic 82, 3) := dk_184 0 82 (dk_at dksX0_isPlace_0 4 rfl rfl)
theorem dX0_isPlace_7 : decode cX0_isPlace 7 = .ok (.ireturn, 1) := dk_172 (dk_at dksX0_isPlace_0 7 rfl rfl)
def dkwX0_cat_0 : List UInt8 := [42, 182, 0, 110, 42, 42, 27, 182, 1, 21, 182, 0, 117, 172, 77, 42, 44, 182, 0, 120, 172]
abbrev dktX0_cat_0 : List UInt8 := dkwX0_cat_0 ++ []
theorem dksX0_cat_0 : cX0_cat.data.toList.drop 0 = dktX0_cat_0 := by decide +kernel
theorem dX0_cat_0 : decode cX0_cat 0 = .ok (.aload_n 0, 1) := dk_42 (dk_at dksX0_cat_0 0 rfl rfl)
theorem dX0_cat_1 : decode cX0_cat 1 = .ok (.invokevirtual 110, 3) := dk_182 0 110 (dk_at dksX0_cat_0 1 rfl rfl)
theorem dX0_cat_4 : decode cX0_cat 4 = .ok (.aload_n 0, 1) := dk_42 (dk_at dksX0_cat_0 4 rfl rfl)
theorem dX0_cat_5 : decode cX0_cat 5 = .ok (.aload_n 0, 1) := dk_42 (dk_at dksX0_cat_0 5 rfl rfl)
theorem dX0_cat_6 : decode cX0_cat 6 = .ok (.iload_n 1, 1) := dk_27 (dk_at dksX0_cat_0 6 rfl rfl)
theorem dX0_cat_7 : decode cX0_cat 7 = .ok (.invokevirtual 277, 3) := dk_182 1 21 (dk_at dksX0_cat_0 7 rfl rfl)
theorem dX0_cat_10 : decode cX0_cat 10 = .ok (.invokevirtual 117, 3) := dk_182 0 117 (dk_at dksX0_cat_0 10 rfl rfl)
theorem dX0_cat_13 : decode cX0_cat 13 = .ok (.ireturn, 1) := dk_172 (dk_at dksX0_cat_0 13 rfl rfl)
theorem dX0_cat_14 : decode cX0_cat 14 = .ok (.astore_n 2, 1) := dk_77 (dk_at dksX0_cat_0 14 rfl rfl)
theorem dX0_cat_15 : decode cX0_cat 15 = .ok (.aload_n 0, 1) := dk_42 (dk_at dksX0_cat_0 15 rfl rfl)
theorem dX0_cat_16 : decode cX0_cat 16 = .ok (.aload_n 2, 1) := dk_44 (dk_at dksX0_cat_0 16 rfl rfl)
theorem dX0_cat_17 : decode cX0_cat 17 = .ok (.invokevirtual 120, 3) := dk_182 0 120 (dk_at dksX0_cat_0 17 rfl rfl)
theorem dX0_cat_20 : decode cX0_cat 20 = .ok (.ireturn, 1) := dk_172 (dk_at dksX0_cat_0 20 rfl rfl)
def dkwX0_doCat_1 : List UInt8 := [180, 0, 22, 180, 1, 18, 61, 42, 180, 0, 22, 27, 181, 1, 18, 28, 4, 96, 172]
abbrev dktX0_doCat_1 : List UInt8 := dkwX0_doCat_1 ++ []
def dkwX0_doCat_0 : List UInt8 := [27, 2, 159, 0, 10, 27, 184, 1, 9, 153, 0, 7, 4, 167, 0, 4, 3, 2, 184, 0, 93, 42]
abbrev dktX0_doCat_0 : List UInt8 := dkwX0_doCat_0 ++ dktX0_doCat_1
theorem dksX0_doCat_0 : cX0_doCat.data.toList.drop 0 = dktX0_doCat_0 := by decide +kernel
theorem dksX0_doCat_1 : cX0_doCat.data.toList.drop 22 = dktX0_doCat_1 := dk_seg dksX0_doCat_0 22 rfl rfl
theorem dX0_doCat_0 : decode cX0_doCat 0 = .ok (.iload_n 1, 1) := dk_27 (dk_at dksX0_doCat_0 0 rfl rfl)
theorem dX0_doCat_1 : decode cX0_doCat 1 = .ok (.iconst (-1), 1) := dk_2 (dk_at dksX0_doCat_0 1 rfl rfl)
theorem dX0_doCat_2 : decode cX0_doCat 2 = .ok (.if_icmp .eq 10, 3) := dk_159 0 10 (dk_at dksX0_doCat_0 2 rfl rfl)
theorem dX0_doCat_5 : decode cX0_doCat 5 = .ok (.iload_n 1, 1) := dk_27 (dk_at dksX0_doCat_0 5 rfl rfl)
theorem dX0_doCat_6 : decode cX0_doCat 6 = .ok (.invokestatic 265, 3) := dk_184 1 9 (dk_at dksX0_doCat_0 6 rfl rfl)
theorem dX0_doCat_9 : decode cX0_doCat 9 = .ok (.ifCond .eq 7, 3) := dk_153 0 7 (dk_at dksX0_doCat_0 9 rfl rfl)
theorem dX0_doCat_12 : decode cX0_doCat 12 = .ok (.iconst 1, 1) := dk_4 (dk_at dksX0_doCat_0 12 rfl rfl)
theorem dX0_doCat_13 : decode cX0_doCat 13 = .ok (.goto 4, 3) := dk_167 0 4 (dk_at dksX0_doCat_0 13 rfl rfl)
theorem dX0_doCat_16 : decode cX0_doCat 16 = .ok (.iconst 0, 1) := dk_3 (dk_at dksX0_doCat_0 16 rfl rfl)
theorem dX0_doCat_17 : decode cX0_doCat 17 = .ok (.iconst (-1), 1) := dk_2 (dk_at dksX0_doCat_0 17 rfl rfl)
theorem dX0_doCat_18 : decode cX0_doCat 18 = .ok (.invokestatic 93, 3) := dk_184 0 93 (dk_at dksX0_doCat_0 18 rfl rfl)
theorem dX0_doCat_21 : decode cX0_doCat 21 = .ok (.aload_n 0, 1) := dk_42 (dk_at dksX0_doCat_0 21 rfl rfl)
theorem dX0_doCat_22 : decode cX0_doCat 22 = .ok (.getfield 22, 3) := dk_180 0 22 (dk_at dksX0_doCat_1 0 rfl rfl)
theorem dX0_doCat_25 : decode cX0_doCat 25 = .ok (.getfield 274, 3) := dk_180 1 18 (dk_at dksX0_doCat_1 3 rfl rfl)
theorem dX0_doCat_28 : decode cX0_doCat 28 = .ok (.istore_n 2, 1) := dk_61 (dk_at dksX0_doCat_1 6 rfl rfl)
theorem dX0_doCat_29 : decode cX0_doCat 29 = .ok (.aload_n 0, 1) := dk_42 (dk_at dksX0_doCat_1 7 rfl rfl)
theorem dX0_doCat_30 : decode cX0_doCat 30 = .ok (.getfield 22, 3) := dk_180 0 22 (dk_at dksX0_doCat_1 8 rfl rfl)
theorem dX0_doCat_33 : decode cX0_doCat 33 = .ok (.iload_n 1, 1) := dk_27 (dk_at dksX0_doCat_1 11 rfl rfl)
theorem dX0_doCat_34 : decode cX0_doCat 34 = .ok (.putfield 274, 3) := dk_181 1 18 (dk_at dksX0_doCat_1 12 rfl rfl)
theorem dX0_doCat_37 : decode cX0_doCat 37 = .ok (.iload_n 2, 1) := dk_28 (dk_at dksX0_doCat_1 15 rfl rfl)
theorem dX0_doCat_38 : decode cX0_doCat 38 = .ok (.iconst 1, 1) := dk_4 (dk_at dksX0_doCat_1 16 rfl rfl)
theorem dX0_doCat_39 : decode cX0_doCat 39 = .ok (.iadd, 1) := dk_96 (dk_at dksX0_doCat_1 17 rfl rfl)
theorem dX0_doCat_40 : decode cX0_doCat 40 = .ok (.ireturn, 1) := dk_172 (dk_at dksX0_doCat_1 18 rfl rfl)
def dkwX0_pass_0 : List UInt8 := [42, 182, 0, 110, 42, 42, 27, 182, 1, 27, 182, 0, 117, 172, 77, 42, 44, 182, 0, 120, 172]
abbrev dktX0_pass_0 : List UInt8 := dkwX0_pass_0 ++ []
theorem dksX0_pass_0 : cX0_pass.data.toList.drop 0 = dktX0_pass_0 := by decide +kernel
theorem dX0_pass_0 : decode cX0_pass 0 = .ok (.aload_n 0, 1) := dk_42 (dk_at dksX0_pass_0 0 rfl rfl)
theorem dX0_pass_1 : decode cX0_pass 1 = .ok (.invokevirtual 110, 3) := dk_182 0 110 (dk_at dksX0_pass_0 1 rfl rfl)
theorem dX0_pass_4 : decode cX0_pass 4 = .ok (.aload_n 0, 1) := dk_42 (dk_at dksX0_pass_0 4 rfl rfl)
theorem dX0_pass_5 : decode cX0_pass 5 = .ok (.aload_n 0, 1) := dk_42 (dk_at dksX0_pass_0 5 rfl rfl)
theorem dX0_pass_6 : decode cX0_pass 6 = .ok (.iload_n 1, 1) := dk_27 (dk_at dksX0_pass_0 6 rfl rfl)
theorem dX0_pass_7 : decode cX0_pass 7 = .ok (.invokevirtual 283, 3) := dk_182 1 27 (dk_at dksX0_pass_0 7 rfl rfl)
theorem dX0_pass_10 : decode cX0_pass 10 = .ok (.invokevirtual 117, 3) := dk_182 0 117 (dk_at dksX0_pass_0 10 rfl rfl)
theorem dX0_pass_13 : decode cX0_pass 13 = .ok (.ireturn, 1) := dk_172 (dk_at dksX0_pass_0 13 rfl rfl)
theorem dX0_pass_14 : decode cX0_pass 14 = .ok (.astore_n 2, 1) := dk_77 (dk_at dksX0_pass_0 14 rfl rfl)
theorem dX0_pass_15 : decode cX0_pass 15 = .ok (.aload_n 0, 1) := dk_42 (dk_at dksX0_pass_0 15 rfl rfl)
theorem dX0_pass_16 : decode cX0_pass 16 = .ok (.aload_n 2, 1) := dk_44 (dk_at dksX0_pass_0 16 rfl rfl)
theorem dX0_pass_17 : decode cX0_pass 17 = .ok (.invokevirtual 120, 3) := dk_182 0 120 (dk_at dksX0_pass_0 17 rfl rfl)
theorem dX0_pass_20 : decode cX0_pass 20 = .ok (.ireturn, 1) := dk_172 (dk_at dksX0_pass_0 20 rfl rfl)
def dkwX0_doPass_1 : List UInt8 := [180, 0, 22, 182, 1, 24, 96, 61, 132, 3, 1, 167, 255, 238, 28, 172]
abbrev dktX0_doPass_1 : List UInt8 := dkwX0_doPass_1 ++ []
def dkwX0_doPass_0 : List UInt8 := [27, 4, 16, 30, 184, 0, 82, 16, 254, 184, 0, 93, 3, 61, 3, 62, 29, 27, 162, 0, 19, 28, 42]
abbrev dktX0_doPass_0 : List UInt8 := dkwX0_doPass_0 ++ dktX0_doPass_1
theorem dksX0_doPass_0 : cX0_doPass.data.toList.drop 0 = dktX0_doPass_0 := by decide +kernel
theorem dksX0_doPass_1 : cX0_doPass.data.toList.drop 23 = dktX0_doPass_1 := dk_seg dksX0_doPass_0 23 rfl rfl
theorem dX0_doPass_0 : decode cX0_doPass 0 = .ok (.iload_n 1, 1) := dk_27 (dk_at dksX0_doPass_0 0 rfl rfl)
theorem dX0_doPass_1 : decode cX0_doPass 1 = .ok (.iconst 1, 1) := dk_4 (dk_at dksX0_doPass_0 1 rfl rfl)
theorem dX0_doPass_2 : decode cX0_doPass 2 = .ok (.bipush 30, 2) := dk_16 30 (dk_at dksX0_doPass_0 2 rfl rfl)
theorem dX0_doPass_4 : decode cX0_doPass 4 = .ok (.invokestatic 82, 3) := dk_184 0 82 (dk_at dksX0_doPass_0 4 rfl rfl)
theorem dX0_doPass_7 : decode cX0_doPass 7 = .ok (.bipush (-2), 2) := dk_16 254 (dk_at dksX0_doPass_0 7 rfl rfl)
theorem dX0_doPass_9 : decode cX0_doPass 9 = .ok (.invokestatic 93, 3) := dk_184 0 93 (dk_at dksX0_doPass_0 9 rfl rfl)
theorem dX0_doPass_12 : decode cX0_doPass 12 = .ok (.iconst 0, 1) := dk_3 (dk_at dksX0_doPass_0 12 rfl rfl)
theorem dX0_doPass_13 : decode cX0_doPass 13 = .ok (.istore_n 2, 1) := dk_61 (dk_at dksX0_doPass_0 13 rfl rfl)
theorem dX0_doPass_14 : decode cX0_doPass 14 = .ok (.iconst 0, 1) := dk_3 (dk_at dksX0_doPass_0 14 rfl rfl)
theorem dX0_doPass_15 : decode cX0_doPass 15 = .ok (.istore_n 3, 1) := dk_62 (dk_at dksX0_doPass_0 15 rfl rfl)
theorem dX0_doPass_16 : decode cX0_doPass 16 = .ok (.iload_n 3, 1) := dk_29 (dk_at dksX0_doPass_0 16 rfl rfl)
theorem dX0_doPass_17 : decode cX0_doPass 17 = .ok (.iload_n 1, 1) := dk_27 (dk_at dksX0_doPass_0 17 rfl rfl)
theorem dX0_doPass_18 : decode cX0_doPass 18 = .ok (.if_icmp .ge 19, 3) := dk_162 0 19 (dk_at dksX0_doPass_0 18 rfl rfl)
theorem dX0_doPass_21 : decode cX0_doPass 21 = .ok (.iload_n 2, 1) := dk_28 (dk_at dksX0_doPass_0 21 rfl rfl)
theorem dX0_doPass_22 : decode cX0_doPass 22 = .ok (.aload_n 0, 1) := dk_42 (dk_at dksX0_doPass_0 22 rfl rfl)
theorem dX0_doPass_23 : decode cX0_doPass 23 = .ok (.getfield 22, 3) := dk_180 0 22 (dk_at dksX0_doPass_1 0 rfl rfl)
theorem dX0_doPass_26 : decode cX0_doPass 26 = .ok (.invokevirtual 280, 3) := dk_182 1 24 (dk_at dksX0_doPass_1 3 rfl rfl)
theorem dX0_doPass_29 : decode cX0_doPass 29 = .ok (.iadd, 1) := dk_96 (dk_at dksX0_doPass_1 6 rfl rfl)
theorem dX0_doPass_30 : decode cX0_doPass 30 = .ok (.istore_n 2, 1) := dk_61 (dk_at dksX0_doPass_1 7 rfl rfl)
theorem dX0_doPass_31 : decode cX0_doPass 31 = .ok (.iinc 3 1, 3) := dk_132 3 1 (dk_at dksX0_doPass_1 8 rfl rfl)
theorem dX0_doPass_34 : decode cX0_doPass 34 = .ok (.goto (-18), 3) := dk_167 255 238 (dk_at dksX0_doPass_1 11 rfl rfl)
theorem dX0_doPass_37 : decode cX0_doPass 37 = .ok (.iload_n 2, 1) := dk_28 (dk_at dksX0_doPass_1 14 rfl rfl)
theorem dX0_doPass_38 : decode cX0_doPass 38 = .ok (.ireturn, 1) := dk_172 (dk_at dksX0_doPass_1 15 rfl rfl)
def dkwX0_pintsOf_0 : List UInt8 := [26, 154, 0, 8, 16, 6, 167, 0, 14, 26, 4, 160, 0, 7, 8, 167, 0, 5, 16, 7, 172]
abbrev dktX0_pintsOf_0 : List UInt8 := dkwX0_pintsOf_0 ++ []
theorem dksX0_pintsOf_0 : cX0_pintsOf.data.toList.drop 0 = dktX0_pintsOf_0 := by decide +kernel
theorem dX0_pintsOf_0 : decode cX0_pintsOf 0 = .ok (.iload_n 0, 1) := dk_26 (dk_at dksX0_pintsOf_0 0 rfl rfl)
theorem dX0_pintsOf_1 : decode cX0_pintsOf 1 = .ok (.ifCond .ne 8, 3) := dk_154 0 8 (dk_at dksX0_pintsOf_0 1 rfl rfl)
theorem dX0_pintsOf_4 : decode cX0_pintsOf 4 = .ok (.bipush 6, 2) := dk_16 6 (dk_at dksX0_pintsOf_0 4 rfl rfl)
theorem dX0_pintsOf_6 : decode cX0_pintsOf 6 = .ok (.goto 14, 3) := dk_167 0 14 (dk_at dksX0_pintsOf_0 6 rfl rfl)
theorem dX0_pintsOf_9 : decode cX0_pintsOf 9 = .ok (.iload_n 0, 1) := dk_26 (dk_at dksX0_pintsOf_0 9 rfl rfl)
theorem dX0_pintsOf_10 : decode cX0_pintsOf 10 = .ok (.iconst 1, 1) := dk_4 (dk_at dksX0_pintsOf_0 10 rfl rfl)
theorem dX0_pintsOf_11 : decode cX0_pintsOf 11 = .ok (.if_icmp .ne 7, 3) := dk_160 0 7 (dk_at dksX0_pintsOf_0 11 rfl rfl)
theorem dX0_pintsOf_14 : decode cX0_pintsOf 14 = .ok (.iconst 5, 1) := dk_8 (dk_at dksX0_pintsOf_0 14 rfl rfl)
theorem dX0_pintsOf_15 : decode cX0_pintsOf 15 = .ok (.goto 5, 3) := dk_167 0 5 (dk_at dksX0_pintsOf_0 15 rfl rfl)
theorem dX0_pintsOf_18 : decode cX0_pintsOf 18 = .ok (.bipush 7, 2) := dk_16 7 (dk_at dksX0_pintsOf_0 18 rfl rfl)
theorem dX0_pintsOf_20 : decode cX0_pintsOf 20 = .ok (.ireturn, 1) := dk_172 (dk_at dksX0_pintsOf_0 20 rfl rfl)
def dkwX0_half_0 : List UInt8 := [26, 4, 96, 5, 108, 172]
abbrev dktX0_half_0 : List UInt8 := dkwX0_half_0 ++ []
theorem dksX0_half_0 : cX0_half.data.toList.drop 0 = dktX0_half_0 := by decide +kernel
theorem dX0_half_0 : decode cX0_half 0 = .ok (.iload_n 0, 1) := dk_26 (dk_at dksX0_half_0 0 rfl rfl)
theorem dX0_half_1 : decode cX0_half 1 = .ok (.iconst 1, 1) := dk_4 (dk_at dksX0_half_0 1 rfl rfl)
theorem dX0_half_2 : decode cX0_half 2 = .ok (.iadd, 1) := dk_96 (dk_at dksX0_half_0 2 rfl rfl)
theorem dX0_half_3 : decode cX0_half 3 = .ok (.iconst 2, 1) := dk_5 (dk_at dksX0_half_0 3 rfl rfl)
theorem dX0_half_4 : decode cX0_half 4 = .ok (.idiv, 1) := dk_108 (dk_at dksX0_half_0 4 rfl rfl)
theorem dX0_half_5 : decode cX0_half 5 = .ok (.ireturn, 1) := dk_172 (dk_at dksX0_half_0 5 rfl rfl)
def dkwX0_append_1 : List UInt8 := [16, 254, 172, 42, 180, 0, 46, 27, 182, 1, 33, 87, 42, 180, 0, 46, 182, 1, 30, 172]
abbrev dktX0_append_1 : List UInt8 := dkwX0_append_1 ++ []
def dkwX0_append_0 : List UInt8 := [27, 16, 32, 16, 126, 184, 0, 82, 153, 0, 15, 42, 180, 0, 46, 182, 1, 30, 16, 60, 160, 0, 6]
abbrev dktX0_append_0 : List UInt8 := dkwX0_append_0 ++ dktX0_append_1
theorem dksX0_append_0 : cX0_append.data.toList.drop 0 = dktX0_append_0 := by decide +kernel
theorem dksX0_append_1 : cX0_append.data.toList.drop 23 = dktX0_append_1 := dk_seg dksX0_append_0 23 rfl rfl
theorem dX0_append_0 : decode cX0_append 0 = .ok (.iload_n 1, 1) := dk_27 (dk_at dksX0_append_0 0 rfl rfl)
theorem dX0_append_1 : decode cX0_append 1 = .ok (.bipush 32, 2) := dk_16 32 (dk_at dksX0_append_0 1 rfl rfl)
theorem dX0_append_3 : decode cX0_append 3 = .ok (.bipush 126, 2) := dk_16 126 (dk_at dksX0_append_0 3 rfl rfl)
theorem dX0_append_5 : decode cX0_append 5 = .ok (.invokestatic 82, 3) := dk_184 0 82 (dk_at dksX0_append_0 5 rfl rfl)
theorem dX0_append_8 : decode cX0_append 8 = .ok (.ifCond .eq 15, 3) := dk_153 0 15 (dk_at dksX0_append_0 8 rfl rfl)
theorem dX0_append_11 : decode cX0_append 11 = .ok (.aload_n 0, 1) := dk_42 (dk_at dksX0_append_0 11 rfl rfl)
theorem dX0_append_12 : decode cX0_append 12 = .ok (.getfield 46, 3) := dk_180 0 46 (dk_at dksX0_append_0 12 rfl rfl)
theorem dX0_append_15 : decode cX0_append 15 = .ok (.invokevirtual 286, 3) := dk_182 1 30 (dk_at dksX0_append_0 15 rfl rfl)
theorem dX0_append_18 : decode cX0_append 18 = .ok (.bipush 60, 2) := dk_16 60 (dk_at dksX0_append_0 18 rfl rfl)
theorem dX0_append_20 : decode cX0_append 20 = .ok (.if_icmp .ne 6, 3) := dk_160 0 6 (dk_at dksX0_append_0 20 rfl rfl)
theorem dX0_append_23 : decode cX0_append 23 = .ok (.bipush (-2), 2) := dk_16 254 (dk_at dksX0_append_1 0 rfl rfl)
theorem dX0_append_25 : decode cX0_append 25 = .ok (.ireturn, 1) := dk_172 (dk_at dksX0_append_1 2 rfl rfl)
theorem dX0_append_26 : decode cX0_append 26 = .ok (.aload_n 0, 1) := dk_42 (dk_at dksX0_append_1 3 rfl rfl)
theorem dX0_append_27 : decode cX0_append 27 = .ok (.getfield 46, 3) := dk_180 0 46 (dk_at dksX0_append_1 4 rfl rfl)
theorem dX0_append_30 : decode cX0_append 30 = .ok (.iload_n 1, 1) := dk_27 (dk_at dksX0_append_1 7 rfl rfl)
theorem dX0_append_31 : decode cX0_append 31 = .ok (.invokevirtual 289, 3) := dk_182 1 33 (dk_at dksX0_append_1 8 rfl rfl)
theorem dX0_append_34 : decode cX0_append 34 = .ok (.pop, 1) := dk_87 (dk_at dksX0_append_1 11 rfl rfl)
theorem dX0_append_35 : decode cX0_append 35 = .ok (.aload_n 0, 1) := dk_42 (dk_at dksX0_append_1 12 rfl rfl)
theorem dX0_append_36 : decode cX0_append 36 = .ok (.getfield 46, 3) := dk_180 0 46 (dk_at dksX0_append_1 13 rfl rfl)
theorem dX0_append_39 : decode cX0_append 39 = .ok (.invokevirtual 286, 3) := dk_182 1 30 (dk_at dksX0_append_1 16 rfl rfl)
theorem dX0_append_42 : decode cX0_append 42 = .ok (.ireturn, 1) := dk_172 (dk_at dksX0_append_1 19 rfl rfl)
theorem dX0_fault_0 : decode cX0_fault 0 = .ok (.aload_n 0, 1) := by decide +kernel
theorem dX0_fault_1 : decode cX0_fault 1 = .ok (.getfield 39, 3) := by decide +kernel
theorem dX0_fault_4 : decode cX0_fault 4 = .ok (.ireturn, 1) := by decide +kernel
def dkwX0_script_1 : List UInt8 := [42, 43, 182, 0, 120, 172]
abbrev dktX0_script_1 : List UInt8 := dkwX0_script_1 ++ []
def dkwX0_script_0 : List UInt8 := [42, 182, 1, 117, 154, 0, 6, 16, 254, 172, 42, 182, 0, 110, 42, 42, 182, 1, 121, 182, 0, 117, 172, 76]
abbrev dktX0_script_0 : List UInt8 := dkwX0_script_0 ++ dktX0_script_1
theorem dksX0_script_0 : cX0_script.data.toList.drop 0 = dktX0_script_0 := by decide +kernel
theorem dksX0_script_1 : cX0_script.data.toList.drop 24 = dktX0_script_1 := dk_seg dksX0_script_0 24 rfl rfl
theorem dX0_script_0 : decode cX0_script 0 = .ok (.aload_n 0, 1) := dk_42 (dk_at dksX0_script_0 0 rfl rfl)
theorem dX0_script_1 : decode cX0_script 1 = .ok (.invokevirtual 373, 3) := dk_182 1 117 (dk_at dksX0_script_0 1 rfl rfl)
theorem dX0_script_4 : decode cX0_script 4 = .ok (.ifCond .ne 6, 3) := dk_154 0 6 (dk_at dksX0_script_0 4 rfl rfl)
theorem dX0_script_7 : decode cX0_script 7 = .ok (.bipush (-2), 2) := dk_16 254 (dk_at dksX0_script_0 7 rfl rfl)
theorem dX0_script_9 : decode cX0_script 9 = .ok (.ireturn, 1) := dk_172 (dk_at dksX0_script_0 9 rfl rfl)
theorem dX0_script_10 : decode cX0_script 10 = .ok (.aload_n 0, 1) := dk_42 (dk_at dksX0_script_0 10 rfl rfl)
theorem dX0_script_11 : decode cX0_script 11 = .ok (.invokevirtual 110, 3) := dk_182 0 110 (dk_at dksX0_script_0 11 rfl rfl)
theorem dX0_script_14 : decode cX0_script 14 = .ok (.aload_n 0, 1) := dk_42 (dk_at dksX0_script_0 14 rfl rfl)
theorem dX0_script_15 : decode cX0_script 15 = .ok (.aload_n 0, 1) := dk_42 (dk_at dksX0_script_0 15 rfl rfl)
theorem dX0_script_16 : decode cX0_script 16 = .ok (.invokevirtual 377, 3) := dk_182 1 121 (dk_at dksX0_script_0 16 rfl rfl)
theorem dX0_script_19 : decode cX0_script 19 = .ok (.invokevirtual 117, 3) := dk_182 0 117 (dk_at dksX0_script_0 19 rfl rfl)
theorem dX0_script_22 : decode cX0_script 22 = .ok (.ireturn, 1) := dk_172 (dk_at dksX0_script_0 22 rfl rfl)
theorem dX0_script_23 : decode cX0_script 23 = .ok (.astore_n 1, 1) := dk_76 (dk_at dksX0_script_0 23 rfl rfl)
theorem dX0_script_24 : decode cX0_script 24 = .ok (.aload_n 0, 1) := dk_42 (dk_at dksX0_script_1 0 rfl rfl)
theorem dX0_script_25 : decode cX0_script 25 = .ok (.aload_n 1, 1) := dk_43 (dk_at dksX0_script_1 1 rfl rfl)
theorem dX0_script_26 : decode cX0_script 26 = .ok (.invokevirtual 120, 3) := dk_182 0 120 (dk_at dksX0_script_1 2 rfl rfl)
theorem dX0_script_29 : decode cX0_script 29 = .ok (.ireturn, 1) := dk_172 (dk_at dksX0_script_1 5 rfl rfl)
def dkwX0_readsScript_4 : List UInt8 := [28, 172, 78, 42, 180, 0, 46, 3, 182, 1, 111, 45, 191]
abbrev dktX0_readsScript_4 : List UInt8 := dkwX0_readsScript_4 ++ []
def dkwX0_readsScript_3 : List UInt8 := [182, 1, 111, 27, 172, 76, 42, 42, 180, 1, 37, 181, 0, 39, 3, 61, 42, 180, 0, 46, 3, 182, 1, 111]
abbrev dktX0_readsScript_3 : List UInt8 := dkwX0_readsScript_3 ++ dktX0_readsScript_4
def dkwX0_readsScript_2 : List UInt8 := [180, 0, 46, 182, 1, 30, 162, 0, 11, 187, 1, 48, 89, 183, 1, 50, 191, 4, 60, 42, 180, 0, 46, 3]
abbrev dktX0_readsScript_2 : List UInt8 := dkwX0_readsScript_2 ++ dktX0_readsScript_3
def dkwX0_readsScript_1 : List UInt8 := [89, 180, 1, 105, 4, 96, 181, 1, 105, 42, 16, 59, 182, 1, 51, 154, 255, 227, 42, 180, 1, 37, 42]
abbrev dktX0_readsScript_1 : List UInt8 := dkwX0_readsScript_1 ++ dktX0_readsScript_2
def dkwX0_readsScript_0 : List UInt8 := [42, 3, 181, 1, 37, 42, 3, 181, 1, 105, 42, 180, 0, 55, 42, 180, 1, 105, 42, 182, 1, 108, 83, 42]
abbrev dktX0_readsScript_0 : List UInt8 := dkwX0_readsScript_0 ++ dktX0_readsScript_1
theorem dksX0_readsScript_0 : cX0_readsScript.data.toList.drop 0 = dktX0_readsScript_0 := by decide +kernel
theorem dksX0_readsScript_1 : cX0_readsScript.data.toList.drop 24 = dktX0_readsScript_1 := dk_seg dksX0_readsScript_0 24 rfl rfl
theorem dksX0_readsScript_2 : cX0_readsScript.data.toList.drop 47 = dktX0_readsScript_2 := dk_seg dksX0_readsScript_1 23 rfl rfl
theorem dksX0_readsScript_3 : cX0_readsScript.data.toList.drop 71 = dktX0_readsScript_3 := dk_seg dksX0_readsScript_2 24 rfl rfl
theorem dksX0_readsScript_4 : cX0_readsScript.data.toList.drop 95 = dktX0_readsScript_4 := dk_seg dksX0_readsScript_3 24 rfl rfl
theorem dX0_readsScript_0 : decode cX0_readsScript 0 = .ok (.aload_n 0, 1) := dk_42 (dk_at dksX0_readsScript_0 0 rfl rfl)
theorem dX0_readsScript_1 : decode cX0_readsScript 1 = .ok (.iconst 0, 1) := dk_3 (dk_at dksX0_readsScript_0 1 rfl rfl)
theorem dX0_readsScript_2 : decode cX0_readsScript 2 = .ok (.putfield 293, 3) := dk_181 1 37 (dk_at dksX0_readsScript_0 2 rfl rfl)
theorem dX0_readsScript_5 : decode cX0_readsScript 5 = .ok (.aload_n 0, 1) := dk_42 (dk_at dksX0_readsScript_0 5 rfl rfl)
theorem dX0_readsScript_6 : decode cX0_readsScript 6 = .ok (.iconst 0, 1) := dk_3 (dk_at dksX0_readsScript_0 6 rfl rfl)
theorem dX0_readsScript_7 : decode cX0_readsScript 7 = .ok (.putfield 361, 3) := dk_181 1 105 (dk_at dksX0_readsScript_0 7 rfl rfl)
theorem dX0_readsScript_10 : decode cX0_readsScript 10 = .ok (.aload_n 0, 1) := dk_42 (dk_at dksX0_readsScript_0 10 rfl rfl)
theorem dX0_readsScript_11 : decode cX0_readsScript 11 = .ok (.getfield 55, 3) := dk_180 0 55 (dk_at dksX0_readsScript_0 11 rfl rfl)
theorem dX0_readsScript_14 : decode cX0_readsScript 14 = .ok (.aload_n 0, 1) := dk_42 (dk_at dksX0_readsScript_0 14 rfl rfl)
theorem dX0_readsScript_15 : decode cX0_readsScript 15 = .ok (.getfield 361, 3) := dk_180 1 105 (dk_at dksX0_readsScript_0 15 rfl rfl)
theorem dX0_readsScript_18 : decode cX0_readsScript 18 = .ok (.aload_n 0, 1) := dk_42 (dk_at dksX0_readsScript_0 18 rfl rfl)
theorem dX0_readsScript_19 : decode cX0_readsScript 19 = .ok (.invokevirtual 364, 3) := dk_182 1 108 (dk_at dksX0_readsScript_0 19 rfl rfl)
theorem dX0_readsScript_22 : decode cX0_readsScript 22 = .ok (.aastore, 1) := dk_83 (dk_at dksX0_readsScript_0 22 rfl rfl)
theorem dX0_readsScript_23 : decode cX0_readsScript 23 = .ok (.aload_n 0, 1) := dk_42 (dk_at dksX0_readsScript_0 23 rfl rfl)
theorem dX0_readsScript_24 : decode cX0_readsScript 24 = .ok (.dup, 1) := dk_89 (dk_at dksX0_readsScript_1 0 rfl rfl)
theorem dX0_readsScript_25 : decode cX0_readsScript 25 = .ok (.getfield 361, 3) := dk_180 1 105 (dk_at dksX0_readsScript_1 1 rfl rfl)
theorem dX0_readsScript_28 : decode cX0_readsScript 28 = .ok (.iconst 1, 1) := dk_4 (dk_at dksX0_readsScript_1 4 rfl rfl)
theorem dX0_readsScript_29 : decode cX0_readsScript 29 = .ok (.iadd, 1) := dk_96 (dk_at dksX0_readsScript_1 5 rfl rfl)
theorem dX0_readsScript_30 : decode cX0_readsScript 30 = .ok (.putfield 361, 3) := dk_181 1 105 (dk_at dksX0_readsScript_1 6 rfl rfl)
theorem dX0_readsScript_33 : decode cX0_readsScript 33 = .ok (.aload_n 0, 1) := dk_42 (dk_at dksX0_readsScript_1 9 rfl rfl)
theorem dX0_readsScript_34 : decode cX0_readsScript 34 = .ok (.bipush 59, 2) := dk_16 59 (dk_at dksX0_readsScript_1 10 rfl rfl)
theorem dX0_readsScript_36 : decode cX0_readsScript 36 = .ok (.invokevirtual 307, 3) := dk_182 1 51 (dk_at dksX0_readsScript_1 12 rfl rfl)
theorem dX0_readsScript_39 : decode cX0_readsScript 39 = .ok (.ifCond .ne (-29), 3) := dk_154 255 227 (dk_at dksX0_readsScript_1 15 rfl rfl)
theorem dX0_readsScript_42 : decode cX0_readsScript 42 = .ok (.aload_n 0, 1) := dk_42 (dk_at dksX0_readsScript_1 18 rfl rfl)
theorem dX0_readsScript_43 : decode cX0_readsScript 43 = .ok (.getfield 293, 3) := dk_180 1 37 (dk_at dksX0_readsScript_1 19 rfl rfl)
theorem dX0_readsScript_46 : decode cX0_readsScript 46 = .ok (.aload_n 0, 1) := dk_42 (dk_at dksX0_readsScript_1 22 rfl rfl)
theorem dX0_readsScript_47 : decode cX0_readsScript 47 = .ok (.getfield 46, 3) := dk_180 0 46 (dk_at dksX0_readsScript_2 0 rfl rfl)
theorem dX0_readsScript_50 : decode cX0_readsScript 50 = .ok (.invokevirtual 286, 3) := dk_182 1 30 (dk_at dksX0_readsScript_2 3 rfl rfl)
theorem dX0_readsScript_53 : decode cX0_readsScript 53 = .ok (.if_icmp .ge 11, 3) := dk_162 0 11 (dk_at dksX0_readsScript_2 6 rfl rfl)
theorem dX0_readsScript_56 : decode cX0_readsScript 56 = .ok (.new 304, 3) := dk_187 1 48 (dk_at dksX0_readsScript_2 9 rfl rfl)
theorem dX0_readsScript_59 : decode cX0_readsScript 59 = .ok (.dup, 1) := dk_89 (dk_at dksX0_readsScript_2 12 rfl rfl)
theorem dX0_readsScript_60 : decode cX0_readsScript 60 = .ok (.invokespecial 306, 3) := dk_183 1 50 (dk_at dksX0_readsScript_2 13 rfl rfl)
theorem dX0_readsScript_63 : decode cX0_readsScript 63 = .ok (.athrow, 1) := dk_191 (dk_at dksX0_readsScript_2 16 rfl rfl)
theorem dX0_readsScript_64 : decode cX0_readsScript 64 = .ok (.iconst 1, 1) := dk_4 (dk_at dksX0_readsScript_2 17 rfl rfl)
theorem dX0_readsScript_65 : decode cX0_readsScript 65 = .ok (.istore_n 1, 1) := dk_60 (dk_at dksX0_readsScript_2 18 rfl rfl)
theorem dX0_readsScript_66 : decode cX0_readsScript 66 = .ok (.aload_n 0, 1) := dk_42 (dk_at dksX0_readsScript_2 19 rfl rfl)
theorem dX0_readsScript_67 : decode cX0_readsScript 67 = .ok (.getfield 46, 3) := dk_180 0 46 (dk_at dksX0_readsScript_2 20 rfl rfl)
theorem dX0_readsScript_70 : decode cX0_readsScript 70 = .ok (.iconst 0, 1) := dk_3 (dk_at dksX0_readsScript_2 23 rfl rfl)
theorem dX0_readsScript_71 : decode cX0_readsScript 71 = .ok (.invokevirtual 367, 3) := dk_182 1 111 (dk_at dksX0_readsScript_3 0 rfl rfl)
theorem dX0_readsScript_74 : decode cX0_readsScript 74 = .ok (.iload_n 1, 1) := dk_27 (dk_at dksX0_readsScript_3 3 rfl rfl)
theorem dX0_readsScript_75 : decode cX0_readsScript 75 = .ok (.ireturn, 1) := dk_172 (dk_at dksX0_readsScript_3 4 rfl rfl)
theorem dX0_readsScript_76 : decode cX0_readsScript 76 = .ok (.astore_n 1, 1) := dk_76 (dk_at dksX0_readsScript_3 5 rfl rfl)
theorem dX0_readsScript_77 : decode cX0_readsScript 77 = .ok (.aload_n 0, 1) := dk_42 (dk_at dksX0_readsScript_3 6 rfl rfl)
theorem dX0_readsScript_78 : decode cX0_readsScript 78 = .ok (.aload_n 0, 1) := dk_42 (dk_at dksX0_readsScript_3 7 rfl rfl)
theorem dX0_readsScript_79 : decode cX0_readsScript 79 = .ok (.getfield 293, 3) := dk_180 1 37 (dk_at dksX0_readsScript_3 8 rfl rfl)
theorem dX0_readsScript_82 : decode cX0_readsScript 82 = .ok (.putfield 39, 3) := dk_181 0 39 (dk_at dksX0_readsScript_3 11 rfl rfl)
theorem dX0_readsScript_85 : decode cX0_readsScript 85 = .ok (.iconst 0, 1) := dk_3 (dk_at dksX0_readsScript_3 14 rfl rfl)
theorem dX0_readsScript_86 : decode cX0_readsScript 86 = .ok (.istore_n 2, 1) := dk_61 (dk_at dksX0_readsScript_3 15 rfl rfl)
theorem dX0_readsScript_87 : decode cX0_readsScript 87 = .ok (.aload_n 0, 1) := dk_42 (dk_at dksX0_readsScript_3 16 rfl rfl)
theorem dX0_readsScript_88 : decode cX0_readsScript 88 = .ok (.getfield 46, 3) := dk_180 0 46 (dk_at dksX0_readsScript_3 17 rfl rfl)
theorem dX0_readsScript_91 : decode cX0_readsScript 91 = .ok (.iconst 0, 1) := dk_3 (dk_at dksX0_readsScript_3 20 rfl rfl)
theorem dX0_readsScript_92 : decode cX0_readsScript 92 = .ok (.invokevirtual 367, 3) := dk_182 1 111 (dk_at dksX0_readsScript_3 21 rfl rfl)
theorem dX0_readsScript_95 : decode cX0_readsScript 95 = .ok (.iload_n 2, 1) := dk_28 (dk_at dksX0_readsScript_4 0 rfl rfl)
theorem dX0_readsScript_96 : decode cX0_readsScript 96 = .ok (.ireturn, 1) := dk_172 (dk_at dksX0_readsScript_4 1 rfl rfl)
theorem dX0_readsScript_97 : decode cX0_readsScript 97 = .ok (.astore_n 3, 1) := dk_78 (dk_at dksX0_readsScript_4 2 rfl rfl)
theorem dX0_readsScript_98 : decode cX0_readsScript 98 = .ok (.aload_n 0, 1) := dk_42 (dk_at dksX0_readsScript_4 3 rfl rfl)
theorem dX0_readsScript_99 : decode cX0_readsScript 99 = .ok (.getfield 46, 3) := dk_180 0 46 (dk_at dksX0_readsScript_4 4 rfl rfl)
theorem dX0_readsScript_102 : decode cX0_readsScript 102 = .ok (.iconst 0, 1) := dk_3 (dk_at dksX0_readsScript_4 7 rfl rfl)
theorem dX0_readsScript_103 : decode cX0_readsScript 103 = .ok (.invokevirtual 367, 3) := dk_182 1 111 (dk_at dksX0_readsScript_4 8 rfl rfl)
theorem dX0_readsScript_106 : decode cX0_readsScript 106 = .ok (.aload_n 3, 1) := dk_45 (dk_at dksX0_readsScript_4 11 rfl rfl)
theorem dX0_readsScript_107 : decode cX0_readsScript 107 = .ok (.athrow, 1) := dk_191 (dk_at dksX0_readsScript_4 12 rfl rfl)
def dkwX0_command_6 : List UInt8 := [167, 0, 4, 3, 183, 1, 89, 176, 42, 182, 1, 90, 176]
abbrev dktX0_command_6 : List UInt8 := dkwX0_command_6 ++ []
def dkwX0_command_5 : List UInt8 := [60, 42, 182, 1, 58, 61, 187, 1, 87, 89, 42, 27, 28, 42, 16, 104, 182, 1, 51, 153, 0, 7, 4]
abbrev dktX0_command_5 : List UInt8 := dkwX0_command_5 ++ dktX0_command_6
def dkwX0_command_4 : List UInt8 := [28, 42, 16, 58, 182, 1, 66, 183, 1, 83, 176, 42, 16, 115, 182, 1, 51, 153, 0, 38, 42, 182, 1, 84]
abbrev dktX0_command_4 : List UInt8 := dkwX0_command_4 ++ dktX0_command_5
def dkwX0_command_3 : List UInt8 := [182, 1, 51, 153, 0, 32, 42, 182, 1, 55, 60, 42, 16, 60, 182, 1, 75, 61, 187, 1, 81, 89, 42, 27]
abbrev dktX0_command_3 : List UInt8 := dkwX0_command_3 ++ dktX0_command_4
def dkwX0_command_2 : List UInt8 := [182, 1, 66, 61, 187, 1, 73, 89, 42, 27, 28, 42, 16, 64, 182, 1, 75, 183, 1, 78, 176, 42, 16, 116]
abbrev dktX0_command_2 : List UInt8 := dkwX0_command_2 ++ dktX0_command_3
def dkwX0_command_1 : List UInt8 := [182, 1, 66, 183, 1, 70, 176, 42, 16, 99, 182, 1, 51, 153, 0, 32, 42, 182, 1, 55, 60, 42, 16, 58]
abbrev dktX0_command_1 : List UInt8 := dkwX0_command_1 ++ dktX0_command_2
def dkwX0_command_0 : List UInt8 := [42, 16, 104, 182, 1, 51, 153, 0, 24, 42, 182, 1, 55, 60, 187, 1, 64, 89, 42, 27, 42, 16, 42]
abbrev dktX0_command_0 : List UInt8 := dkwX0_command_0 ++ dktX0_command_1
theorem dksX0_command_0 : cX0_command.data.toList.drop 0 = dktX0_command_0 := by decide +kernel
theorem dksX0_command_1 : cX0_command.data.toList.drop 23 = dktX0_command_1 := dk_seg dksX0_command_0 23 rfl rfl
theorem dksX0_command_2 : cX0_command.data.toList.drop 47 = dktX0_command_2 := dk_seg dksX0_command_1 24 rfl rfl
theorem dksX0_command_3 : cX0_command.data.toList.drop 71 = dktX0_command_3 := dk_seg dksX0_command_2 24 rfl rfl
theorem dksX0_command_4 : cX0_command.data.toList.drop 95 = dktX0_command_4 := dk_seg dksX0_command_3 24 rfl rfl
theorem dksX0_command_5 : cX0_command.data.toList.drop 119 = dktX0_command_5 := dk_seg dksX0_command_4 24 rfl rfl
theorem dksX0_command_6 : cX0_command.data.toList.drop 142 = dktX0_command_6 := dk_seg dksX0_command_5 23 rfl rfl
theorem dX0_command_0 : decode cX0_command 0 = .ok (.aload_n 0, 1) := dk_42 (dk_at dksX0_command_0 0 rfl rfl)
theorem dX0_command_1 : decode cX0_command 1 = .ok (.bipush 104, 2) := dk_16 104 (dk_at dksX0_command_0 1 rfl rfl)
theorem dX0_command_3 : decode cX0_command 3 = .ok (.invokevirtual 307, 3) := dk_182 1 51 (dk_at dksX0_command_0 3 rfl rfl)
theorem dX0_command_6 : decode cX0_command 6 = .ok (.ifCond .eq 24, 3) := dk_153 0 24 (dk_at dksX0_command_0 6 rfl rfl)
theorem dX0_command_9 : decode cX0_command 9 = .ok (.aload_n 0, 1) := dk_42 (dk_at dksX0_command_0 9 rfl rfl)
theorem dX0_command_10 : decode cX0_command 10 = .ok (.invokevirtual 311, 3) := dk_182 1 55 (dk_at dksX0_command_0 10 rfl rfl)
theorem dX0_command_13 : decode cX0_command 13 = .ok (.istore_n 1, 1) := dk_60 (dk_at dksX0_command_0 13 rfl rfl)
theorem dX0_command_14 : decode cX0_command 14 = .ok (.new 320, 3) := dk_187 1 64 (dk_at dksX0_command_0 14 rfl rfl)
theorem dX0_command_17 : decode cX0_command 17 = .ok (.dup, 1) := dk_89 (dk_at dksX0_command_0 17 rfl rfl)
theorem dX0_command_18 : decode cX0_command 18 = .ok (.aload_n 0, 1) := dk_42 (dk_at dksX0_command_0 18 rfl rfl)
theorem dX0_command_19 : decode cX0_command 19 = .ok (.iload_n 1, 1) := dk_27 (dk_at dksX0_command_0 19 rfl rfl)
theorem dX0_command_20 : decode cX0_command 20 = .ok (.aload_n 0, 1) := dk_42 (dk_at dksX0_command_0 20 rfl rfl)
theorem dX0_command_21 : decode cX0_command 21 = .ok (.bipush 42, 2) := dk_16 42 (dk_at dksX0_command_0 21 rfl rfl)
theorem dX0_command_23 : decode cX0_command 23 = .ok (.invokevirtual 322, 3) := dk_182 1 66 (dk_at dksX0_command_1 0 rfl rfl)
theorem dX0_command_26 : decode cX0_command 26 = .ok (.invokespecial 326, 3) := dk_183 1 70 (dk_at dksX0_command_1 3 rfl rfl)
theorem dX0_command_29 : decode cX0_command 29 = .ok (.areturn, 1) := dk_176 (dk_at dksX0_command_1 6 rfl rfl)
theorem dX0_command_30 : decode cX0_command 30 = .ok (.aload_n 0, 1) := dk_42 (dk_at dksX0_command_1 7 rfl rfl)
theorem dX0_command_31 : decode cX0_command 31 = .ok (.bipush 99, 2) := dk_16 99 (dk_at dksX0_command_1 8 rfl rfl)
theorem dX0_command_33 : decode cX0_command 33 = .ok (.invokevirtual 307, 3) := dk_182 1 51 (dk_at dksX0_command_1 10 rfl rfl)
theorem dX0_command_36 : decode cX0_command 36 = .ok (.ifCond .eq 32, 3) := dk_153 0 32 (dk_at dksX0_command_1 13 rfl rfl)
theorem dX0_command_39 : decode cX0_command 39 = .ok (.aload_n 0, 1) := dk_42 (dk_at dksX0_command_1 16 rfl rfl)
theorem dX0_command_40 : decode cX0_command 40 = .ok (.invokevirtual 311, 3) := dk_182 1 55 (dk_at dksX0_command_1 17 rfl rfl)
theorem dX0_command_43 : decode cX0_command 43 = .ok (.istore_n 1, 1) := dk_60 (dk_at dksX0_command_1 20 rfl rfl)
theorem dX0_command_44 : decode cX0_command 44 = .ok (.aload_n 0, 1) := dk_42 (dk_at dksX0_command_1 21 rfl rfl)
theorem dX0_command_45 : decode cX0_command 45 = .ok (.bipush 58, 2) := dk_16 58 (dk_at dksX0_command_1 22 rfl rfl)
theorem dX0_command_47 : decode cX0_command 47 = .ok (.invokevirtual 322, 3) := dk_182 1 66 (dk_at dksX0_command_2 0 rfl rfl)
theorem dX0_command_50 : decode cX0_command 50 = .ok (.istore_n 2, 1) := dk_61 (dk_at dksX0_command_2 3 rfl rfl)
theorem dX0_command_51 : decode cX0_command 51 = .ok (.new 329, 3) := dk_187 1 73 (dk_at dksX0_command_2 4 rfl rfl)
theorem dX0_command_54 : decode cX0_command 54 = .ok (.dup, 1) := dk_89 (dk_at dksX0_command_2 7 rfl rfl)
theorem dX0_command_55 : decode cX0_command 55 = .ok (.aload_n 0, 1) := dk_42 (dk_at dksX0_command_2 8 rfl rfl)
theorem dX0_command_56 : decode cX0_command 56 = .ok (.iload_n 1, 1) := dk_27 (dk_at dksX0_command_2 9 rfl rfl)
theorem dX0_command_57 : decode cX0_command 57 = .ok (.iload_n 2, 1) := dk_28 (dk_at dksX0_command_2 10 rfl rfl)
theorem dX0_command_58 : decode cX0_command 58 = .ok (.aload_n 0, 1) := dk_42 (dk_at dksX0_command_2 11 rfl rfl)
theorem dX0_command_59 : decode cX0_command 59 = .ok (.bipush 64, 2) := dk_16 64 (dk_at dksX0_command_2 12 rfl rfl)
theorem dX0_command_61 : decode cX0_command 61 = .ok (.invokevirtual 331, 3) := dk_182 1 75 (dk_at dksX0_command_2 14 rfl rfl)
theorem dX0_command_64 : decode cX0_command 64 = .ok (.invokespecial 334, 3) := dk_183 1 78 (dk_at dksX0_command_2 17 rfl rfl)
theorem dX0_command_67 : decode cX0_command 67 = .ok (.areturn, 1) := dk_176 (dk_at dksX0_command_2 20 rfl rfl)
theorem dX0_command_68 : decode cX0_command 68 = .ok (.aload_n 0, 1) := dk_42 (dk_at dksX0_command_2 21 rfl rfl)
theorem dX0_command_69 : decode cX0_command 69 = .ok (.bipush 116, 2) := dk_16 116 (dk_at dksX0_command_2 22 rfl rfl)
theorem dX0_command_71 : decode cX0_command 71 = .ok (.invokevirtual 307, 3) := dk_182 1 51 (dk_at dksX0_command_3 0 rfl rfl)
theorem dX0_command_74 : decode cX0_command 74 = .ok (.ifCond .eq 32, 3) := dk_153 0 32 (dk_at dksX0_command_3 3 rfl rfl)
theorem dX0_command_77 : decode cX0_command 77 = .ok (.aload_n 0, 1) := dk_42 (dk_at dksX0_command_3 6 rfl rfl)
theorem dX0_command_78 : decode cX0_command 78 = .ok (.invokevirtual 311, 3) := dk_182 1 55 (dk_at dksX0_command_3 7 rfl rfl)
theorem dX0_command_81 : decode cX0_command 81 = .ok (.istore_n 1, 1) := dk_60 (dk_at dksX0_command_3 10 rfl rfl)
theorem dX0_command_82 : decode cX0_command 82 = .ok (.aload_n 0, 1) := dk_42 (dk_at dksX0_command_3 11 rfl rfl)
theorem dX0_command_83 : decode cX0_command 83 = .ok (.bipush 60, 2) := dk_16 60 (dk_at dksX0_command_3 12 rfl rfl)
theorem dX0_command_85 : decode cX0_command 85 = .ok (.invokevirtual 331, 3) := dk_182 1 75 (dk_at dksX0_command_3 14 rfl rfl)
theorem dX0_command_88 : decode cX0_command 88 = .ok (.istore_n 2, 1) := dk_61 (dk_at dksX0_command_3 17 rfl rfl)
theorem dX0_command_89 : decode cX0_command 89 = .ok (.new 337, 3) := dk_187 1 81 (dk_at dksX0_command_3 18 rfl rfl)
theorem dX0_command_92 : decode cX0_command 92 = .ok (.dup, 1) := dk_89 (dk_at dksX0_command_3 21 rfl rfl)
theorem dX0_command_93 : decode cX0_command 93 = .ok (.aload_n 0, 1) := dk_42 (dk_at dksX0_command_3 22 rfl rfl)
theorem dX0_command_94 : decode cX0_command 94 = .ok (.iload_n 1, 1) := dk_27 (dk_at dksX0_command_3 23 rfl rfl)
theorem dX0_command_95 : decode cX0_command 95 = .ok (.iload_n 2, 1) := dk_28 (dk_at dksX0_command_4 0 rfl rfl)
theorem dX0_command_96 : decode cX0_command 96 = .ok (.aload_n 0, 1) := dk_42 (dk_at dksX0_command_4 1 rfl rfl)
theorem dX0_command_97 : decode cX0_command 97 = .ok (.bipush 58, 2) := dk_16 58 (dk_at dksX0_command_4 2 rfl rfl)
theorem dX0_command_99 : decode cX0_command 99 = .ok (.invokevirtual 322, 3) := dk_182 1 66 (dk_at dksX0_command_4 4 rfl rfl)
theorem dX0_command_102 : decode cX0_command 102 = .ok (.invokespecial 339, 3) := dk_183 1 83 (dk_at dksX0_command_4 7 rfl rfl)
theorem dX0_command_105 : decode cX0_command 105 = .ok (.areturn, 1) := dk_176 (dk_at dksX0_command_4 10 rfl rfl)
theorem dX0_command_106 : decode cX0_command 106 = .ok (.aload_n 0, 1) := dk_42 (dk_at dksX0_command_4 11 rfl rfl)
theorem dX0_command_107 : decode cX0_command 107 = .ok (.bipush 115, 2) := dk_16 115 (dk_at dksX0_command_4 12 rfl rfl)
theorem dX0_command_109 : decode cX0_command 109 = .ok (.invokevirtual 307, 3) := dk_182 1 51 (dk_at dksX0_command_4 14 rfl rfl)
theorem dX0_command_112 : decode cX0_command 112 = .ok (.ifCond .eq 38, 3) := dk_153 0 38 (dk_at dksX0_command_4 17 rfl rfl)
theorem dX0_command_115 : decode cX0_command 115 = .ok (.aload_n 0, 1) := dk_42 (dk_at dksX0_command_4 20 rfl rfl)
theorem dX0_command_116 : decode cX0_command 116 = .ok (.invokevirtual 340, 3) := dk_182 1 84 (dk_at dksX0_command_4 21 rfl rfl)
theorem dX0_command_119 : decode cX0_command 119 = .ok (.istore_n 1, 1) := dk_60 (dk_at dksX0_command_5 0 rfl rfl)
theorem dX0_command_120 : decode cX0_command 120 = .ok (.aload_n 0, 1) := dk_42 (dk_at dksX0_command_5 1 rfl rfl)
theorem dX0_command_121 : decode cX0_command 121 = .ok (.invokevirtual 314, 3) := dk_182 1 58 (dk_at dksX0_command_5 2 rfl rfl)
theorem dX0_command_124 : decode cX0_command 124 = .ok (.istore_n 2, 1) := dk_61 (dk_at dksX0_command_5 5 rfl rfl)
theorem dX0_command_125 : decode cX0_command 125 = .ok (.new 343, 3) := dk_187 1 87 (dk_at dksX0_command_5 6 rfl rfl)
theorem dX0_command_128 : decode cX0_command 128 = .ok (.dup, 1) := dk_89 (dk_at dksX0_command_5 9 rfl rfl)
theorem dX0_command_129 : decode cX0_command 129 = .ok (.aload_n 0, 1) := dk_42 (dk_at dksX0_command_5 10 rfl rfl)
theorem dX0_command_130 : decode cX0_command 130 = .ok (.iload_n 1, 1) := dk_27 (dk_at dksX0_command_5 11 rfl rfl)
theorem dX0_command_131 : decode cX0_command 131 = .ok (.iload_n 2, 1) := dk_28 (dk_at dksX0_command_5 12 rfl rfl)
theorem dX0_command_132 : decode cX0_command 132 = .ok (.aload_n 0, 1) := dk_42 (dk_at dksX0_command_5 13 rfl rfl)
theorem dX0_command_133 : decode cX0_command 133 = .ok (.bipush 104, 2) := dk_16 104 (dk_at dksX0_command_5 14 rfl rfl)
theorem dX0_command_135 : decode cX0_command 135 = .ok (.invokevirtual 307, 3) := dk_182 1 51 (dk_at dksX0_command_5 16 rfl rfl)
theorem dX0_command_138 : decode cX0_command 138 = .ok (.ifCond .eq 7, 3) := dk_153 0 7 (dk_at dksX0_command_5 19 rfl rfl)
theorem dX0_command_141 : decode cX0_command 141 = .ok (.iconst 1, 1) := dk_4 (dk_at dksX0_command_5 22 rfl rfl)
theorem dX0_command_142 : decode cX0_command 142 = .ok (.goto 4, 3) := dk_167 0 4 (dk_at dksX0_command_6 0 rfl rfl)
theorem dX0_command_145 : decode cX0_command 145 = .ok (.iconst 0, 1) := dk_3 (dk_at dksX0_command_6 3 rfl rfl)
theorem dX0_command_146 : decode cX0_command 146 = .ok (.invokespecial 345, 3) := dk_183 1 89 (dk_at dksX0_command_6 4 rfl rfl)
theorem dX0_command_149 : decode cX0_command 149 = .ok (.areturn, 1) := dk_176 (dk_at dksX0_command_6 7 rfl rfl)
theorem dX0_command_150 : decode cX0_command 150 = .ok (.aload_n 0, 1) := dk_42 (dk_at dksX0_command_6 8 rfl rfl)
theorem dX0_command_151 : decode cX0_command 151 = .ok (.invokevirtual 346, 3) := dk_182 1 90 (dk_at dksX0_command_6 9 rfl rfl)
theorem dX0_command_154 : decode cX0_command 154 = .ok (.areturn, 1) := dk_176 (dk_at dksX0_command_6 12 rfl rfl)
def dkwX0_takesIf_1 : List UInt8 := [181, 1, 37, 28, 172]
abbrev dktX0_takesIf_1 : List UInt8 := dkwX0_takesIf_1 ++ []
def dkwX0_takesIf_0 : List UInt8 := [42, 27, 27, 182, 1, 44, 61, 42, 89, 180, 1, 37, 28, 153, 0, 7, 4, 167, 0, 4, 3, 96]
abbrev dktX0_takesIf_0 : List UInt8 := dkwX0_takesIf_0 ++ dktX0_takesIf_1
theorem dksX0_takesIf_0 : cX0_takesIf.data.toList.drop 0 = dktX0_takesIf_0 := by decide +kernel
theorem dksX0_takesIf_1 : cX0_takesIf.data.toList.drop 22 = dktX0_takesIf_1 := dk_seg dksX0_takesIf_0 22 rfl rfl
theorem dX0_takesIf_0 : decode cX0_takesIf 0 = .ok (.aload_n 0, 1) := dk_42 (dk_at dksX0_takesIf_0 0 rfl rfl)
theorem dX0_takesIf_1 : decode cX0_takesIf 1 = .ok (.iload_n 1, 1) := dk_27 (dk_at dksX0_takesIf_0 1 rfl rfl)
theorem dX0_takesIf_2 : decode cX0_takesIf 2 = .ok (.iload_n 1, 1) := dk_27 (dk_at dksX0_takesIf_0 2 rfl rfl)
theorem dX0_takesIf_3 : decode cX0_takesIf 3 = .ok (.invokevirtual 300, 3) := dk_182 1 44 (dk_at dksX0_takesIf_0 3 rfl rfl)
theorem dX0_takesIf_6 : decode cX0_takesIf 6 = .ok (.istore_n 2, 1) := dk_61 (dk_at dksX0_takesIf_0 6 rfl rfl)
theorem dX0_takesIf_7 : decode cX0_takesIf 7 = .ok (.aload_n 0, 1) := dk_42 (dk_at dksX0_takesIf_0 7 rfl rfl)
theorem dX0_takesIf_8 : decode cX0_takesIf 8 = .ok (.dup, 1) := dk_89 (dk_at dksX0_takesIf_0 8 rfl rfl)
theorem dX0_takesIf_9 : decode cX0_takesIf 9 = .ok (.getfield 293, 3) := dk_180 1 37 (dk_at dksX0_takesIf_0 9 rfl rfl)
theorem dX0_takesIf_12 : decode cX0_takesIf 12 = .ok (.iload_n 2, 1) := dk_28 (dk_at dksX0_takesIf_0 12 rfl rfl)
theorem dX0_takesIf_13 : decode cX0_takesIf 13 = .ok (.ifCond .eq 7, 3) := dk_153 0 7 (dk_at dksX0_takesIf_0 13 rfl rfl)
theorem dX0_takesIf_16 : decode cX0_takesIf 16 = .ok (.iconst 1, 1) := dk_4 (dk_at dksX0_takesIf_0 16 rfl rfl)
theorem dX0_takesIf_17 : decode cX0_takesIf 17 = .ok (.goto 4, 3) := dk_167 0 4 (dk_at dksX0_takesIf_0 17 rfl rfl)
theorem dX0_takesIf_20 : decode cX0_takesIf 20 = .ok (.iconst 0, 1) := dk_3 (dk_at dksX0_takesIf_0 20 rfl rfl)
theorem dX0_takesIf_21 : decode cX0_takesIf 21 = .ok (.iadd, 1) := dk_96 (dk_at dksX0_takesIf_0 21 rfl rfl)
theorem dX0_takesIf_22 : decode cX0_takesIf 22 = .ok (.putfield 293, 3) := dk_181 1 37 (dk_at dksX0_takesIf_1 0 rfl rfl)
theorem dX0_takesIf_25 : decode cX0_takesIf 25 = .ok (.iload_n 2, 1) := dk_28 (dk_at dksX0_takesIf_1 3 rfl rfl)
theorem dX0_takesIf_26 : decode cX0_takesIf 26 = .ok (.ireturn, 1) := dk_172 (dk_at dksX0_takesIf_1 4 rfl rfl)
def dkwX0_isHere_1 : List UInt8 := [182, 1, 40, 27, 28, 184, 0, 82, 153, 0, 7, 4, 167, 0, 4, 3, 172]
abbrev dktX0_isHere_1 : List UInt8 := dkwX0_isHere_1 ++ []
def dkwX0_isHere_0 : List UInt8 := [42, 180, 1, 37, 42, 180, 0, 46, 182, 1, 30, 162, 0, 26, 42, 180, 0, 46, 42, 180, 1, 37]
abbrev dktX0_isHere_0 : List UInt8 := dkwX0_isHere_0 ++ dktX0_isHere_1
theorem dksX0_isHere_0 : cX0_isHere.data.toList.drop 0 = dktX0_isHere_0 := by decide +kernel
theorem dksX0_isHere_1 : cX0_isHere.data.toList.drop 22 = dktX0_isHere_1 := dk_seg dksX0_isHere_0 22 rfl rfl
theorem dX0_isHere_0 : decode cX0_isHere 0 = .ok (.aload_n 0, 1) := dk_42 (dk_at dksX0_isHere_0 0 rfl rfl)
theorem dX0_isHere_1 : decode cX0_isHere 1 = .ok (.getfield 293, 3) := dk_180 1 37 (dk_at dksX0_isHere_0 1 rfl rfl)
theorem dX0_isHere_4 : decode cX0_isHere 4 = .ok (.aload_n 0, 1) := dk_42 (dk_at dksX0_isHere_0 4 rfl rfl)
theorem dX0_isHere_5 : decode cX0_isHere 5 = .ok (.getfield 46, 3) := dk_180 0 46 (dk_at dksX0_isHere_0 5 rfl rfl)
theorem dX0_isHere_8 : decode cX0_isHere 8 = .ok (.invokevirtual 286, 3) := dk_182 1 30 (dk_at dksX0_isHere_0 8 rfl rfl)
theorem dX0_isHere_11 : decode cX0_isHere 11 = .ok (.if_icmp .ge 26, 3) := dk_162 0 26 (dk_at dksX0_isHere_0 11 rfl rfl)
theorem dX0_isHere_14 : decode cX0_isHere 14 = .ok (.aload_n 0, 1) := dk_42 (dk_at dksX0_isHere_0 14 rfl rfl)
theorem dX0_isHere_15 : decode cX0_isHere 15 = .ok (.getfield 46, 3) := dk_180 0 46 (dk_at dksX0_isHere_0 15 rfl rfl)
theorem dX0_isHere_18 : decode cX0_isHere 18 = .ok (.aload_n 0, 1) := dk_42 (dk_at dksX0_isHere_0 18 rfl rfl)
theorem dX0_isHere_19 : decode cX0_isHere 19 = .ok (.getfield 293, 3) := dk_180 1 37 (dk_at dksX0_isHere_0 19 rfl rfl)
theorem dX0_isHere_22 : decode cX0_isHere 22 = .ok (.invokevirtual 296, 3) := dk_182 1 40 (dk_at dksX0_isHere_1 0 rfl rfl)
theorem dX0_isHere_25 : decode cX0_isHere 25 = .ok (.iload_n 1, 1) := dk_27 (dk_at dksX0_isHere_1 3 rfl rfl)
theorem dX0_isHere_26 : decode cX0_isHere 26 = .ok (.iload_n 2, 1) := dk_28 (dk_at dksX0_isHere_1 4 rfl rfl)
theorem dX0_isHere_27 : decode cX0_isHere 27 = .ok (.invokestatic 82, 3) := dk_184 0 82 (dk_at dksX0_isHere_1 5 rfl rfl)
theorem dX0_isHere_30 : decode cX0_isHere 30 = .ok (.ifCond .eq 7, 3) := dk_153 0 7 (dk_at dksX0_isHere_1 8 rfl rfl)
theorem dX0_isHere_33 : decode cX0_isHere 33 = .ok (.iconst 1, 1) := dk_4 (dk_at dksX0_isHere_1 11 rfl rfl)
theorem dX0_isHere_34 : decode cX0_isHere 34 = .ok (.goto 4, 3) := dk_167 0 4 (dk_at dksX0_isHere_1 12 rfl rfl)
theorem dX0_isHere_37 : decode cX0_isHere 37 = .ok (.iconst 0, 1) := dk_3 (dk_at dksX0_isHere_1 15 rfl rfl)
theorem dX0_isHere_38 : decode cX0_isHere 38 = .ok (.ireturn, 1) := dk_172 (dk_at dksX0_isHere_1 16 rfl rfl)
def dkwX0_digit_1 : List UInt8 := [4, 96, 181, 1, 37, 42, 180, 0, 46, 42, 180, 1, 37, 4, 100, 182, 1, 40, 16, 48, 100, 172]
abbrev dktX0_digit_1 : List UInt8 := dkwX0_digit_1 ++ []
def dkwX0_digit_0 : List UInt8 := [42, 16, 48, 16, 57, 182, 1, 44, 154, 0, 11, 187, 1, 48, 89, 183, 1, 50, 191, 42, 89, 180, 1, 37]
abbrev dktX0_digit_0 : List UInt8 := dkwX0_digit_0 ++ dktX0_digit_1
theorem dksX0_digit_0 : cX0_digit.data.toList.drop 0 = dktX0_digit_0 := by decide +kernel
theorem dksX0_digit_1 : cX0_digit.data.toList.drop 24 = dktX0_digit_1 := dk_seg dksX0_digit_0 24 rfl rfl
theorem dX0_digit_0 : decode cX0_digit 0 = .ok (.aload_n 0, 1) := dk_42 (dk_at dksX0_digit_0 0 rfl rfl)
theorem dX0_digit_1 : decode cX0_digit 1 = .ok (.bipush 48, 2) := dk_16 48 (dk_at dksX0_digit_0 1 rfl rfl)
theorem dX0_digit_3 : decode cX0_digit 3 = .ok (.bipush 57, 2) := dk_16 57 (dk_at dksX0_digit_0 3 rfl rfl)
theorem dX0_digit_5 : decode cX0_digit 5 = .ok (.invokevirtual 300, 3) := dk_182 1 44 (dk_at dksX0_digit_0 5 rfl rfl)
theorem dX0_digit_8 : decode cX0_digit 8 = .ok (.ifCond .ne 11, 3) := dk_154 0 11 (dk_at dksX0_digit_0 8 rfl rfl)
theorem dX0_digit_11 : decode cX0_digit 11 = .ok (.new 304, 3) := dk_187 1 48 (dk_at dksX0_digit_0 11 rfl rfl)
theorem dX0_digit_14 : decode cX0_digit 14 = .ok (.dup, 1) := dk_89 (dk_at dksX0_digit_0 14 rfl rfl)
theorem dX0_digit_15 : decode cX0_digit 15 = .ok (.invokespecial 306, 3) := dk_183 1 50 (dk_at dksX0_digit_0 15 rfl rfl)
theorem dX0_digit_18 : decode cX0_digit 18 = .ok (.athrow, 1) := dk_191 (dk_at dksX0_digit_0 18 rfl rfl)
theorem dX0_digit_19 : decode cX0_digit 19 = .ok (.aload_n 0, 1) := dk_42 (dk_at dksX0_digit_0 19 rfl rfl)
theorem dX0_digit_20 : decode cX0_digit 20 = .ok (.dup, 1) := dk_89 (dk_at dksX0_digit_0 20 rfl rfl)
theorem dX0_digit_21 : decode cX0_digit 21 = .ok (.getfield 293, 3) := dk_180 1 37 (dk_at dksX0_digit_0 21 rfl rfl)
theorem dX0_digit_24 : decode cX0_digit 24 = .ok (.iconst 1, 1) := dk_4 (dk_at dksX0_digit_1 0 rfl rfl)
theorem dX0_digit_25 : decode cX0_digit 25 = .ok (.iadd, 1) := dk_96 (dk_at dksX0_digit_1 1 rfl rfl)
theorem dX0_digit_26 : decode cX0_digit 26 = .ok (.putfield 293, 3) := dk_181 1 37 (dk_at dksX0_digit_1 2 rfl rfl)
theorem dX0_digit_29 : decode cX0_digit 29 = .ok (.aload_n 0, 1) := dk_42 (dk_at dksX0_digit_1 5 rfl rfl)
theorem dX0_digit_30 : decode cX0_digit 30 = .ok (.getfield 46, 3) := dk_180 0 46 (dk_at dksX0_digit_1 6 rfl rfl)
theorem dX0_digit_33 : decode cX0_digit 33 = .ok (.aload_n 0, 1) := dk_42 (dk_at dksX0_digit_1 9 rfl rfl)
theorem dX0_digit_34 : decode cX0_digit 34 = .ok (.getfield 293, 3) := dk_180 1 37 (dk_at dksX0_digit_1 10 rfl rfl)
theorem dX0_digit_37 : decode cX0_digit 37 = .ok (.iconst 1, 1) := dk_4 (dk_at dksX0_digit_1 13 rfl rfl)
theorem dX0_digit_38 : decode cX0_digit 38 = .ok (.isub, 1) := dk_100 (dk_at dksX0_digit_1 14 rfl rfl)
theorem dX0_digit_39 : decode cX0_digit 39 = .ok (.invokevirtual 296, 3) := dk_182 1 40 (dk_at dksX0_digit_1 15 rfl rfl)
theorem dX0_digit_42 : decode cX0_digit 42 = .ok (.bipush 48, 2) := dk_16 48 (dk_at dksX0_digit_1 18 rfl rfl)
theorem dX0_digit_44 : decode cX0_digit 44 = .ok (.isub, 1) := dk_100 (dk_at dksX0_digit_1 20 rfl rfl)
theorem dX0_digit_45 : decode cX0_digit 45 = .ok (.ireturn, 1) := dk_172 (dk_at dksX0_digit_1 21 rfl rfl)
def dkwX0_numberBehind_0 : List UInt8 := [42, 27, 182, 1, 51, 154, 0, 11, 187, 1, 48, 89, 183, 1, 50, 191, 42, 182, 1, 58, 172]
abbrev dktX0_numberBehind_0 : List UInt8 := dkwX0_numberBehind_0 ++ []
theorem dksX0_numberBehind_0 : cX0_numberBehind.data.toList.drop 0 = dktX0_numberBehind_0 := by decide +kernel
theorem dX0_numberBehind_0 : decode cX0_numberBehind 0 = .ok (.aload_n 0, 1) := dk_42 (dk_at dksX0_numberBehind_0 0 rfl rfl)
theorem dX0_numberBehind_1 : decode cX0_numberBehind 1 = .ok (.iload_n 1, 1) := dk_27 (dk_at dksX0_numberBehind_0 1 rfl rfl)
theorem dX0_numberBehind_2 : decode cX0_numberBehind 2 = .ok (.invokevirtual 307, 3) := dk_182 1 51 (dk_at dksX0_numberBehind_0 2 rfl rfl)
theorem dX0_numberBehind_5 : decode cX0_numberBehind 5 = .ok (.ifCond .ne 11, 3) := dk_154 0 11 (dk_at dksX0_numberBehind_0 5 rfl rfl)
theorem dX0_numberBehind_8 : decode cX0_numberBehind 8 = .ok (.new 304, 3) := dk_187 1 48 (dk_at dksX0_numberBehind_0 8 rfl rfl)
theorem dX0_numberBehind_11 : decode cX0_numberBehind 11 = .ok (.dup, 1) := dk_89 (dk_at dksX0_numberBehind_0 11 rfl rfl)
theorem dX0_numberBehind_12 : decode cX0_numberBehind 12 = .ok (.invokespecial 306, 3) := dk_183 1 50 (dk_at dksX0_numberBehind_0 12 rfl rfl)
theorem dX0_numberBehind_15 : decode cX0_numberBehind 15 = .ok (.athrow, 1) := dk_191 (dk_at dksX0_numberBehind_0 15 rfl rfl)
theorem dX0_numberBehind_16 : decode cX0_numberBehind 16 = .ok (.aload_n 0, 1) := dk_42 (dk_at dksX0_numberBehind_0 16 rfl rfl)
theorem dX0_numberBehind_17 : decode cX0_numberBehind 17 = .ok (.invokevirtual 314, 3) := dk_182 1 58 (dk_at dksX0_numberBehind_0 17 rfl rfl)
theorem dX0_numberBehind_20 : decode cX0_numberBehind 20 = .ok (.ireturn, 1) := dk_172 (dk_at dksX0_numberBehind_0 20 rfl rfl)
def dkwX0_number_1 : List UInt8 := [16, 10, 27, 104, 42, 182, 1, 55, 96, 60, 132, 2, 1, 167, 255, 227, 27, 172]
abbrev dktX0_number_1 : List UInt8 := dkwX0_number_1 ++ []
def dkwX0_number_0 : List UInt8 := [42, 182, 1, 55, 60, 4, 61, 28, 6, 162, 0, 30, 42, 16, 48, 16, 57, 182, 1, 44, 153, 0, 19]
abbrev dktX0_number_0 : List UInt8 := dkwX0_number_0 ++ dktX0_number_1
theorem dksX0_number_0 : cX0_number.data.toList.drop 0 = dktX0_number_0 := by decide +kernel
theorem dksX0_number_1 : cX0_number.data.toList.drop 23 = dktX0_number_1 := dk_seg dksX0_number_0 23 rfl rfl
theorem dX0_number_0 : decode cX0_number 0 = .ok (.aload_n 0, 1) := dk_42 (dk_at dksX0_number_0 0 rfl rfl)
theorem dX0_number_1 : decode cX0_number 1 = .ok (.invokevirtual 311, 3) := dk_182 1 55 (dk_at dksX0_number_0 1 rfl rfl)
theorem dX0_number_4 : decode cX0_number 4 = .ok (.istore_n 1, 1) := dk_60 (dk_at dksX0_number_0 4 rfl rfl)
theorem dX0_number_5 : decode cX0_number 5 = .ok (.iconst 1, 1) := dk_4 (dk_at dksX0_number_0 5 rfl rfl)
theorem dX0_number_6 : decode cX0_number 6 = .ok (.istore_n 2, 1) := dk_61 (dk_at dksX0_number_0 6 rfl rfl)
theorem dX0_number_7 : decode cX0_number 7 = .ok (.iload_n 2, 1) := dk_28 (dk_at dksX0_number_0 7 rfl rfl)
theorem dX0_number_8 : decode cX0_number 8 = .ok (.iconst 3, 1) := dk_6 (dk_at dksX0_number_0 8 rfl rfl)
theorem dX0_number_9 : decode cX0_number 9 = .ok (.if_icmp .ge 30, 3) := dk_162 0 30 (dk_at dksX0_number_0 9 rfl rfl)
theorem dX0_number_12 : decode cX0_number 12 = .ok (.aload_n 0, 1) := dk_42 (dk_at dksX0_number_0 12 rfl rfl)
theorem dX0_number_13 : decode cX0_number 13 = .ok (.bipush 48, 2) := dk_16 48 (dk_at dksX0_number_0 13 rfl rfl)
theorem dX0_number_15 : decode cX0_number 15 = .ok (.bipush 57, 2) := dk_16 57 (dk_at dksX0_number_0 15 rfl rfl)
theorem dX0_number_17 : decode cX0_number 17 = .ok (.invokevirtual 300, 3) := dk_182 1 44 (dk_at dksX0_number_0 17 rfl rfl)
theorem dX0_number_20 : decode cX0_number 20 = .ok (.ifCond .eq 19, 3) := dk_153 0 19 (dk_at dksX0_number_0 20 rfl rfl)
theorem dX0_number_23 : decode cX0_number 23 = .ok (.bipush 10, 2) := dk_16 10 (dk_at dksX0_number_1 0 rfl rfl)
theorem dX0_number_25 : decode cX0_number 25 = .ok (.iload_n 1, 1) := dk_27 (dk_at dksX0_number_1 2 rfl rfl)
theorem dX0_number_26 : decode cX0_number 26 = .ok (.imul, 1) := dk_104 (dk_at dksX0_number_1 3 rfl rfl)
theorem dX0_number_27 : decode cX0_number 27 = .ok (.aload_n 0, 1) := dk_42 (dk_at dksX0_number_1 4 rfl rfl)
theorem dX0_number_28 : decode cX0_number 28 = .ok (.invokevirtual 311, 3) := dk_182 1 55 (dk_at dksX0_number_1 5 rfl rfl)
theorem dX0_number_31 : decode cX0_number 31 = .ok (.iadd, 1) := dk_96 (dk_at dksX0_number_1 8 rfl rfl)
theorem dX0_number_32 : decode cX0_number 32 = .ok (.istore_n 1, 1) := dk_60 (dk_at dksX0_number_1 9 rfl rfl)
theorem dX0_number_33 : decode cX0_number 33 = .ok (.iinc 2 1, 3) := dk_132 2 1 (dk_at dksX0_number_1 10 rfl rfl)
theorem dX0_number_36 : decode cX0_number 36 = .ok (.goto (-29), 3) := dk_167 255 227 (dk_at dksX0_number_1 13 rfl rfl)
theorem dX0_number_39 : decode cX0_number 39 = .ok (.iload_n 1, 1) := dk_27 (dk_at dksX0_number_1 16 rfl rfl)
theorem dX0_number_40 : decode cX0_number 40 = .ok (.ireturn, 1) := dk_172 (dk_at dksX0_number_1 17 rfl rfl)
def dkwX0_digitBehind_0 : List UInt8 := [42, 27, 182, 1, 51, 154, 0, 11, 187, 1, 48, 89, 183, 1, 50, 191, 42, 182, 1, 55, 172]
abbrev dktX0_digitBehind_0 : List UInt8 := dkwX0_digitBehind_0 ++ []
theorem dksX0_digitBehind_0 : cX0_digitBehind.data.toList.drop 0 = dktX0_digitBehind_0 := by decide +kernel
theorem dX0_digitBehind_0 : decode cX0_digitBehind 0 = .ok (.aload_n 0, 1) := dk_42 (dk_at dksX0_digitBehind_0 0 rfl rfl)
theorem dX0_digitBehind_1 : decode cX0_digitBehind 1 = .ok (.iload_n 1, 1) := dk_27 (dk_at dksX0_digitBehind_0 1 rfl rfl)
theorem dX0_digitBehind_2 : decode cX0_digitBehind 2 = .ok (.invokevirtual 307, 3) := dk_182 1 51 (dk_at dksX0_digitBehind_0 2 rfl rfl)
theorem dX0_digitBehind_5 : decode cX0_digitBehind 5 = .ok (.ifCond .ne 11, 3) := dk_154 0 11 (dk_at dksX0_digitBehind_0 5 rfl rfl)
theorem dX0_digitBehind_8 : decode cX0_digitBehind 8 = .ok (.new 304, 3) := dk_187 1 48 (dk_at dksX0_digitBehind_0 8 rfl rfl)
theorem dX0_digitBehind_11 : decode cX0_digitBehind 11 = .ok (.dup, 1) := dk_89 (dk_at dksX0_digitBehind_0 11 rfl rfl)
theorem dX0_digitBehind_12 : decode cX0_digitBehind 12 = .ok (.invokespecial 306, 3) := dk_183 1 50 (dk_at dksX0_digitBehind_0 12 rfl rfl)
theorem dX0_digitBehind_15 : decode cX0_digitBehind 15 = .ok (.athrow, 1) := dk_191 (dk_at dksX0_digitBehind_0 15 rfl rfl)
theorem dX0_digitBehind_16 : decode cX0_digitBehind 16 = .ok (.aload_n 0, 1) := dk_42 (dk_at dksX0_digitBehind_0 16 rfl rfl)
theorem dX0_digitBehind_17 : decode cX0_digitBehind 17 = .ok (.invokevirtual 311, 3) := dk_182 1 55 (dk_at dksX0_digitBehind_0 17 rfl rfl)
theorem dX0_digitBehind_20 : decode cX0_digitBehind 20 = .ok (.ireturn, 1) := dk_172 (dk_at dksX0_digitBehind_0 20 rfl rfl)
def dkwX0_kindSign_1 : List UInt8 := [167, 255, 235, 187, 1, 48, 89, 183, 1, 50, 191]
abbrev dktX0_kindSign_1 : List UInt8 := dkwX0_kindSign_1 ++ []
def dkwX0_kindSign_0 : List UInt8 := [3, 60, 27, 6, 162, 0, 22, 42, 27, 184, 1, 61, 182, 1, 51, 153, 0, 5, 27, 172, 132, 1, 1]
abbrev dktX0_kindSign_0 : List UInt8 := dkwX0_kindSign_0 ++ dktX0_kindSign_1
theorem dksX0_kindSign_0 : cX0_kindSign.data.toList.drop 0 = dktX0_kindSign_0 := by decide +kernel
theorem dksX0_kindSign_1 : cX0_kindSign.data.toList.drop 23 = dktX0_kindSign_1 := dk_seg dksX0_kindSign_0 23 rfl rfl
theorem dX0_kindSign_0 : decode cX0_kindSign 0 = .ok (.iconst 0, 1) := dk_3 (dk_at dksX0_kindSign_0 0 rfl rfl)
theorem dX0_kindSign_1 : decode cX0_kindSign 1 = .ok (.istore_n 1, 1) := dk_60 (dk_at dksX0_kindSign_0 1 rfl rfl)
theorem dX0_kindSign_2 : decode cX0_kindSign 2 = .ok (.iload_n 1, 1) := dk_27 (dk_at dksX0_kindSign_0 2 rfl rfl)
theorem dX0_kindSign_3 : decode cX0_kindSign 3 = .ok (.iconst 3, 1) := dk_6 (dk_at dksX0_kindSign_0 3 rfl rfl)
theorem dX0_kindSign_4 : decode cX0_kindSign 4 = .ok (.if_icmp .ge 22, 3) := dk_162 0 22 (dk_at dksX0_kindSign_0 4 rfl rfl)
theorem dX0_kindSign_7 : decode cX0_kindSign 7 = .ok (.aload_n 0, 1) := dk_42 (dk_at dksX0_kindSign_0 7 rfl rfl)
theorem dX0_kindSign_8 : decode cX0_kindSign 8 = .ok (.iload_n 1, 1) := dk_27 (dk_at dksX0_kindSign_0 8 rfl rfl)
theorem dX0_kindSign_9 : decode cX0_kindSign 9 = .ok (.invokestatic 317, 3) := dk_184 1 61 (dk_at dksX0_kindSign_0 9 rfl rfl)
theorem dX0_kindSign_12 : decode cX0_kindSign 12 = .ok (.invokevirtual 307, 3) := dk_182 1 51 (dk_at dksX0_kindSign_0 12 rfl rfl)
theorem dX0_kindSign_15 : decode cX0_kindSign 15 = .ok (.ifCond .eq 5, 3) := dk_153 0 5 (dk_at dksX0_kindSign_0 15 rfl rfl)
theorem dX0_kindSign_18 : decode cX0_kindSign 18 = .ok (.iload_n 1, 1) := dk_27 (dk_at dksX0_kindSign_0 18 rfl rfl)
theorem dX0_kindSign_19 : decode cX0_kindSign 19 = .ok (.ireturn, 1) := dk_172 (dk_at dksX0_kindSign_0 19 rfl rfl)
theorem dX0_kindSign_20 : decode cX0_kindSign 20 = .ok (.iinc 1 1, 3) := dk_132 1 1 (dk_at dksX0_kindSign_0 20 rfl rfl)
theorem dX0_kindSign_23 : decode cX0_kindSign 23 = .ok (.goto (-21), 3) := dk_167 255 235 (dk_at dksX0_kindSign_1 0 rfl rfl)
theorem dX0_kindSign_26 : decode cX0_kindSign 26 = .ok (.new 304, 3) := dk_187 1 48 (dk_at dksX0_kindSign_1 3 rfl rfl)
theorem dX0_kindSign_29 : decode cX0_kindSign 29 = .ok (.dup, 1) := dk_89 (dk_at dksX0_kindSign_1 6 rfl rfl)
theorem dX0_kindSign_30 : decode cX0_kindSign 30 = .ok (.invokespecial 306, 3) := dk_183 1 50 (dk_at dksX0_kindSign_1 7 rfl rfl)
theorem dX0_kindSign_33 : decode cX0_kindSign 33 = .ok (.athrow, 1) := dk_191 (dk_at dksX0_kindSign_1 10 rfl rfl)
def dkwX0_signOf_0 : List UInt8 := [26, 154, 0, 8, 16, 119, 167, 0, 15, 26, 4, 160, 0, 8, 16, 114, 167, 0, 5, 16, 98, 172]
abbrev dktX0_signOf_0 : List UInt8 := dkwX0_signOf_0 ++ []
theorem dksX0_signOf_0 : cX0_signOf.data.toList.drop 0 = dktX0_signOf_0 := by decide +kernel
theorem dX0_signOf_0 : decode cX0_signOf 0 = .ok (.iload_n 0, 1) := dk_26 (dk_at dksX0_signOf_0 0 rfl rfl)
theorem dX0_signOf_1 : decode cX0_signOf 1 = .ok (.ifCond .ne 8, 3) := dk_154 0 8 (dk_at dksX0_signOf_0 1 rfl rfl)
theorem dX0_signOf_4 : decode cX0_signOf 4 = .ok (.bipush 119, 2) := dk_16 119 (dk_at dksX0_signOf_0 4 rfl rfl)
theorem dX0_signOf_6 : decode cX0_signOf 6 = .ok (.goto 15, 3) := dk_167 0 15 (dk_at dksX0_signOf_0 6 rfl rfl)
theorem dX0_signOf_9 : decode cX0_signOf 9 = .ok (.iload_n 0, 1) := dk_26 (dk_at dksX0_signOf_0 9 rfl rfl)
theorem dX0_signOf_10 : decode cX0_signOf 10 = .ok (.iconst 1, 1) := dk_4 (dk_at dksX0_signOf_0 10 rfl rfl)
theorem dX0_signOf_11 : decode cX0_signOf 11 = .ok (.if_icmp .ne 8, 3) := dk_160 0 8 (dk_at dksX0_signOf_0 11 rfl rfl)
theorem dX0_signOf_14 : decode cX0_signOf 14 = .ok (.bipush 114, 2) := dk_16 114 (dk_at dksX0_signOf_0 14 rfl rfl)
theorem dX0_signOf_16 : decode cX0_signOf 16 = .ok (.goto 5, 3) := dk_167 0 5 (dk_at dksX0_signOf_0 16 rfl rfl)
theorem dX0_signOf_19 : decode cX0_signOf 19 = .ok (.bipush 98, 2) := dk_16 98 (dk_at dksX0_signOf_0 19 rfl rfl)
theorem dX0_signOf_21 : decode cX0_signOf 21 = .ok (.ireturn, 1) := dk_172 (dk_at dksX0_signOf_0 21 rfl rfl)
def dkwX0_shortCommand_3 : List UInt8 := [183, 1, 50, 191]
abbrev dktX0_shortCommand_3 : List UInt8 := dkwX0_shortCommand_3 ++ []
def dkwX0_shortCommand_2 : List UInt8 := [182, 1, 51, 153, 0, 16, 187, 1, 102, 89, 42, 42, 182, 1, 55, 183, 1, 104, 176, 187, 1, 48, 89]
abbrev dktX0_shortCommand_2 : List UInt8 := dkwX0_shortCommand_2 ++ dktX0_shortCommand_3
def dkwX0_shortCommand_1 : List UInt8 := [16, 107, 182, 1, 51, 153, 0, 16, 187, 1, 99, 89, 42, 42, 182, 1, 55, 183, 1, 101, 176, 42, 16, 103]
abbrev dktX0_shortCommand_1 : List UInt8 := dkwX0_shortCommand_1 ++ dktX0_shortCommand_2
def dkwX0_shortCommand_0 : List UInt8 := [42, 16, 110, 182, 1, 51, 153, 0, 16, 187, 1, 94, 89, 42, 42, 182, 1, 58, 183, 1, 96, 176, 42]
abbrev dktX0_shortCommand_0 : List UInt8 := dkwX0_shortCommand_0 ++ dktX0_shortCommand_1
theorem dksX0_shortCommand_0 : cX0_shortCommand.data.toList.drop 0 = dktX0_shortCommand_0 := by decide +kernel
theorem dksX0_shortCommand_1 : cX0_shortCommand.data.toList.drop 23 = dktX0_shortCommand_1 := dk_seg dksX0_shortCommand_0 23 rfl rfl
theorem dksX0_shortCommand_2 : cX0_shortCommand.data.toList.drop 47 = dktX0_shortCommand_2 := dk_seg dksX0_shortCommand_1 24 rfl rfl
theorem dksX0_shortCommand_3 : cX0_shortCommand.data.toList.drop 70 = dktX0_shortCommand_3 := dk_seg dksX0_shortCommand_2 23 rfl rfl
theorem dX0_shortCommand_0 : decode cX0_shortCommand 0 = .ok (.aload_n 0, 1) := dk_42 (dk_at dksX0_shortCommand_0 0 rfl rfl)
theorem dX0_shortCommand_1 : decode cX0_shortCommand 1 = .ok (.bipush 110, 2) := dk_16 110 (dk_at dksX0_shortCommand_0 1 rfl rfl)
theorem dX0_shortCommand_3 : decode cX0_shortCommand 3 = .ok (.invokevirtual 307, 3) := dk_182 1 51 (dk_at dksX0_shortCommand_0 3 rfl rfl)
theorem dX0_shortCommand_6 : decode cX0_shortCommand 6 = .ok (.ifCond .eq 16, 3) := dk_153 0 16 (dk_at dksX0_shortCommand_0 6 rfl rfl)
theorem dX0_shortCommand_9 : decode cX0_shortCommand 9 = .ok (.new 350, 3) := dk_187 1 94 (dk_at dksX0_shortCommand_0 9 rfl rfl)
theorem dX0_shortCommand_12 : decode cX0_shortCommand 12 = .ok (.dup, 1) := dk_89 (dk_at dksX0_shortCommand_0 12 rfl rfl)
theorem dX0_shortCommand_13 : decode cX0_shortCommand 13 = .ok (.aload_n 0, 1) := dk_42 (dk_at dksX0_shortCommand_0 13 rfl rfl)
theorem dX0_shortCommand_14 : decode cX0_shortCommand 14 = .ok (.aload_n 0, 1) := dk_42 (dk_at dksX0_shortCommand_0 14 rfl rfl)
theorem dX0_shortCommand_15 : decode cX0_shortCommand 15 = .ok (.invokevirtual 314, 3) := dk_182 1 58 (dk_at dksX0_shortCommand_0 15 rfl rfl)
theorem dX0_shortCommand_18 : decode cX0_shortCommand 18 = .ok (.invokespecial 352, 3) := dk_183 1 96 (dk_at dksX0_shortCommand_0 18 rfl rfl)
theorem dX0_shortCommand_21 : decode cX0_shortCommand 21 = .ok (.areturn, 1) := dk_176 (dk_at dksX0_shortCommand_0 21 rfl rfl)
theorem dX0_shortCommand_22 : decode cX0_shortCommand 22 = .ok (.aload_n 0, 1) := dk_42 (dk_at dksX0_shortCommand_0 22 rfl rfl)
theorem dX0_shortCommand_23 : decode cX0_shortCommand 23 = .ok (.bipush 107, 2) := dk_16 107 (dk_at dksX0_shortCommand_1 0 rfl rfl)
theorem dX0_shortCommand_25 : decode cX0_shortCommand 25 = .ok (.invokevirtual 307, 3) := dk_182 1 51 (dk_at dksX0_shortCommand_1 2 rfl rfl)
theorem dX0_shortCommand_28 : decode cX0_shortCommand 28 = .ok (.ifCond .eq 16, 3) := dk_153 0 16 (dk_at dksX0_shortCommand_1 5 rfl rfl)
theorem dX0_shortCommand_31 : decode cX0_shortCommand 31 = .ok (.new 355, 3) := dk_187 1 99 (dk_at dksX0_shortCommand_1 8 rfl rfl)
theorem dX0_shortCommand_34 : decode cX0_shortCommand 34 = .ok (.dup, 1) := dk_89 (dk_at dksX0_shortCommand_1 11 rfl rfl)
theorem dX0_shortCommand_35 : decode cX0_shortCommand 35 = .ok (.aload_n 0, 1) := dk_42 (dk_at dksX0_shortCommand_1 12 rfl rfl)
theorem dX0_shortCommand_36 : decode cX0_shortCommand 36 = .ok (.aload_n 0, 1) := dk_42 (dk_at dksX0_shortCommand_1 13 rfl rfl)
theorem dX0_shortCommand_37 : decode cX0_shortCommand 37 = .ok (.invokevirtual 311, 3) := dk_182 1 55 (dk_at dksX0_shortCommand_1 14 rfl rfl)
theorem dX0_shortCommand_40 : decode cX0_shortCommand 40 = .ok (.invokespecial 357, 3) := dk_183 1 101 (dk_at dksX0_shortCommand_1 17 rfl rfl)
theorem dX0_shortCommand_43 : decode cX0_shortCommand 43 = .ok (.areturn, 1) := dk_176 (dk_at dksX0_shortCommand_1 20 rfl rfl)
theorem dX0_shortCommand_44 : decode cX0_shortCommand 44 = .ok (.aload_n 0, 1) := dk_42 (dk_at dksX0_shortCommand_1 21 rfl rfl)
theorem dX0_shortCommand_45 : decode cX0_shortCommand 45 = .ok (.bipush 103, 2) := dk_16 103 (dk_at dksX0_shortCommand_1 22 rfl rfl)
theorem dX0_shortCommand_47 : decode cX0_shortCommand 47 = .ok (.invokevirtual 307, 3) := dk_182 1 51 (dk_at dksX0_shortCommand_2 0 rfl rfl)
theorem dX0_shortCommand_50 : decode cX0_shortCommand 50 = .ok (.ifCond .eq 16, 3) := dk_153 0 16 (dk_at dksX0_shortCommand_2 3 rfl rfl)
theorem dX0_shortCommand_53 : decode cX0_shortCommand 53 = .ok (.new 358, 3) := dk_187 1 102 (dk_at dksX0_shortCommand_2 6 rfl rfl)
theorem dX0_shortCommand_56 : decode cX0_shortCommand 56 = .ok (.dup, 1) := dk_89 (dk_at dksX0_shortCommand_2 9 rfl rfl)
theorem dX0_shortCommand_57 : decode cX0_shortCommand 57 = .ok (.aload_n 0, 1) := dk_42 (dk_at dksX0_shortCommand_2 10 rfl rfl)
theorem dX0_shortCommand_58 : decode cX0_shortCommand 58 = .ok (.aload_n 0, 1) := dk_42 (dk_at dksX0_shortCommand_2 11 rfl rfl)
theorem dX0_shortCommand_59 : decode cX0_shortCommand 59 = .ok (.invokevirtual 311, 3) := dk_182 1 55 (dk_at dksX0_shortCommand_2 12 rfl rfl)
theorem dX0_shortCommand_62 : decode cX0_shortCommand 62 = .ok (.invokespecial 360, 3) := dk_183 1 104 (dk_at dksX0_shortCommand_2 15 rfl rfl)
theorem dX0_shortCommand_65 : decode cX0_shortCommand 65 = .ok (.areturn, 1) := dk_176 (dk_at dksX0_shortCommand_2 18 rfl rfl)
theorem dX0_shortCommand_66 : decode cX0_shortCommand 66 = .ok (.new 304, 3) := dk_187 1 48 (dk_at dksX0_shortCommand_2 19 rfl rfl)
theorem dX0_shortCommand_69 : decode cX0_shortCommand 69 = .ok (.dup, 1) := dk_89 (dk_at dksX0_shortCommand_2 22 rfl rfl)
theorem dX0_shortCommand_70 : decode cX0_shortCommand 70 = .ok (.invokespecial 306, 3) := dk_183 1 50 (dk_at dksX0_shortCommand_3 0 rfl rfl)
theorem dX0_shortCommand_73 : decode cX0_shortCommand 73 = .ok (.athrow, 1) := dk_191 (dk_at dksX0_shortCommand_3 3 rfl rfl)
def dkwX0_doScript_2 : List UInt8 := [132, 1, 1, 167, 255, 207, 42, 180, 1, 105, 172]
abbrev dktX0_doScript_2 : List UInt8 := dkwX0_doScript_2 ++ []
def dkwX0_doScript_1 : List UInt8 := [187, 0, 9, 89, 16, 11, 27, 183, 0, 11, 191, 77, 187, 0, 9, 89, 16, 11, 27, 44, 183, 0, 161, 191]
abbrev dktX0_doScript_1 : List UInt8 := dkwX0_doScript_1 ++ dktX0_doScript_2
def dkwX0_doScript_0 : List UInt8 := [3, 60, 27, 42, 180, 1, 105, 162, 0, 47, 42, 180, 0, 55, 27, 50, 182, 1, 114, 61, 167, 0, 28, 77]
abbrev dktX0_doScript_0 : List UInt8 := dkwX0_doScript_0 ++ dktX0_doScript_1
theorem dksX0_doScript_0 : cX0_doScript.data.toList.drop 0 = dktX0_doScript_0 := by decide +kernel
theorem dksX0_doScript_1 : cX0_doScript.data.toList.drop 24 = dktX0_doScript_1 := dk_seg dksX0_doScript_0 24 rfl rfl
theorem dksX0_doScript_2 : cX0_doScript.data.toList.drop 48 = dktX0_doScript_2 := dk_seg dksX0_doScript_1 24 rfl rfl
theorem dX0_doScript_0 : decode cX0_doScript 0 = .ok (.iconst 0, 1) := dk_3 (dk_at dksX0_doScript_0 0 rfl rfl)
theorem dX0_doScript_1 : decode cX0_doScript 1 = .ok (.istore_n 1, 1) := dk_60 (dk_at dksX0_doScript_0 1 rfl rfl)
theorem dX0_doScript_2 : decode cX0_doScript 2 = .ok (.iload_n 1, 1) := dk_27 (dk_at dksX0_doScript_0 2 rfl rfl)
theorem dX0_doScript_3 : decode cX0_doScript 3 = .ok (.aload_n 0, 1) := dk_42 (dk_at dksX0_doScript_0 3 rfl rfl)
theorem dX0_doScript_4 : decode cX0_doScript 4 = .ok (.getfield 361, 3) := dk_180 1 105 (dk_at dksX0_doScript_0 4 rfl rfl)
theorem dX0_doScript_7 : decode cX0_doScript 7 = .ok (.if_icmp .ge 47, 3) := dk_162 0 47 (dk_at dksX0_doScript_0 7 rfl rfl)
theorem dX0_doScript_10 : decode cX0_doScript 10 = .ok (.aload_n 0, 1) := dk_42 (dk_at dksX0_doScript_0 10 rfl rfl)
theorem dX0_doScript_11 : decode cX0_doScript 11 = .ok (.getfield 55, 3) := dk_180 0 55 (dk_at dksX0_doScript_0 11 rfl rfl)
theorem dX0_doScript_14 : decode cX0_doScript 14 = .ok (.iload_n 1, 1) := dk_27 (dk_at dksX0_doScript_0 14 rfl rfl)
theorem dX0_doScript_15 : decode cX0_doScript 15 = .ok (.aaload, 1) := dk_50 (dk_at dksX0_doScript_0 15 rfl rfl)
theorem dX0_doScript_16 : decode cX0_doScript 16 = .ok (.invokevirtual 370, 3) := dk_182 1 114 (dk_at dksX0_doScript_0 16 rfl rfl)
theorem dX0_doScript_19 : decode cX0_doScript 19 = .ok (.istore_n 2, 1) := dk_61 (dk_at dksX0_doScript_0 19 rfl rfl)
theorem dX0_doScript_20 : decode cX0_doScript 20 = .ok (.goto 28, 3) := dk_167 0 28 (dk_at dksX0_doScript_0 20 rfl rfl)
theorem dX0_doScript_23 : decode cX0_doScript 23 = .ok (.astore_n 2, 1) := dk_77 (dk_at dksX0_doScript_0 23 rfl rfl)
theorem dX0_doScript_24 : decode cX0_doScript 24 = .ok (.new 9, 3) := dk_187 0 9 (dk_at dksX0_doScript_1 0 rfl rfl)
theorem dX0_doScript_27 : decode cX0_doScript 27 = .ok (.dup, 1) := dk_89 (dk_at dksX0_doScript_1 3 rfl rfl)
theorem dX0_doScript_28 : decode cX0_doScript 28 = .ok (.bipush 11, 2) := dk_16 11 (dk_at dksX0_doScript_1 4 rfl rfl)
theorem dX0_doScript_30 : decode cX0_doScript 30 = .ok (.iload_n 1, 1) := dk_27 (dk_at dksX0_doScript_1 6 rfl rfl)
theorem dX0_doScript_31 : decode cX0_doScript 31 = .ok (.invokespecial 11, 3) := dk_183 0 11 (dk_at dksX0_doScript_1 7 rfl rfl)
theorem dX0_doScript_34 : decode cX0_doScript 34 = .ok (.athrow, 1) := dk_191 (dk_at dksX0_doScript_1 10 rfl rfl)
theorem dX0_doScript_35 : decode cX0_doScript 35 = .ok (.astore_n 2, 1) := dk_77 (dk_at dksX0_doScript_1 11 rfl rfl)
theorem dX0_doScript_36 : decode cX0_doScript 36 = .ok (.new 9, 3) := dk_187 0 9 (dk_at dksX0_doScript_1 12 rfl rfl)
theorem dX0_doScript_39 : decode cX0_doScript 39 = .ok (.dup, 1) := dk_89 (dk_at dksX0_doScript_1 15 rfl rfl)
theorem dX0_doScript_40 : decode cX0_doScript 40 = .ok (.bipush 11, 2) := dk_16 11 (dk_at dksX0_doScript_1 16 rfl rfl)
theorem dX0_doScript_42 : decode cX0_doScript 42 = .ok (.iload_n 1, 1) := dk_27 (dk_at dksX0_doScript_1 18 rfl rfl)
theorem dX0_doScript_43 : decode cX0_doScript 43 = .ok (.aload_n 2, 1) := dk_44 (dk_at dksX0_doScript_1 19 rfl rfl)
theorem dX0_doScript_44 : decode cX0_doScript 44 = .ok (.invokespecial 161, 3) := dk_183 0 161 (dk_at dksX0_doScript_1 20 rfl rfl)
theorem dX0_doScript_47 : decode cX0_doScript 47 = .ok (.athrow, 1) := dk_191 (dk_at dksX0_doScript_1 23 rfl rfl)
theorem dX0_doScript_48 : decode cX0_doScript 48 = .ok (.iinc 1 1, 3) := dk_132 1 1 (dk_at dksX0_doScript_2 0 rfl rfl)
theorem dX0_doScript_51 : decode cX0_doScript 51 = .ok (.goto (-49), 3) := dk_167 255 207 (dk_at dksX0_doScript_2 3 rfl rfl)
theorem dX0_doScript_54 : decode cX0_doScript 54 = .ok (.aload_n 0, 1) := dk_42 (dk_at dksX0_doScript_2 6 rfl rfl)
theorem dX0_doScript_55 : decode cX0_doScript 55 = .ok (.getfield 361, 3) := dk_180 1 105 (dk_at dksX0_doScript_2 7 rfl rfl)
theorem dX0_doScript_58 : decode cX0_doScript 58 = .ok (.ireturn, 1) := dk_172 (dk_at dksX0_doScript_2 10 rfl rfl)
def dkwX0_reason_2 : List UInt8 := [160, 0, 10, 45, 180, 1, 128, 167, 0, 7, 45, 180, 1, 131, 172]
abbrev dktX0_reason_2 : List UInt8 := dkwX0_reason_2 ++ []
def dkwX0_reason_1 : List UInt8 := [167, 0, 11, 42, 180, 0, 75, 27, 182, 1, 124, 78, 45, 199, 0, 8, 16, 252, 167, 0, 19, 28, 4]
abbrev dktX0_reason_1 : List UInt8 := dkwX0_reason_1 ++ dktX0_reason_2
def dkwX0_reason_0 : List UInt8 := [27, 155, 0, 12, 28, 3, 4, 184, 0, 82, 154, 0, 6, 16, 254, 172, 42, 180, 0, 75, 199, 0, 7, 1]
abbrev dktX0_reason_0 : List UInt8 := dkwX0_reason_0 ++ dktX0_reason_1
theorem dksX0_reason_0 : cX0_reason.data.toList.drop 0 = dktX0_reason_0 := by decide +kernel
theorem dksX0_reason_1 : cX0_reason.data.toList.drop 24 = dktX0_reason_1 := dk_seg dksX0_reason_0 24 rfl rfl
theorem dksX0_reason_2 : cX0_reason.data.toList.drop 47 = dktX0_reason_2 := dk_seg dksX0_reason_1 23 rfl rfl
theorem dX0_reason_0 : decode cX0_reason 0 = .ok (.iload_n 1, 1) := dk_27 (dk_at dksX0_reason_0 0 rfl rfl)
theorem dX0_reason_1 : decode cX0_reason 1 = .ok (.ifCond .lt 12, 3) := dk_155 0 12 (dk_at dksX0_reason_0 1 rfl rfl)
theorem dX0_reason_4 : decode cX0_reason 4 = .ok (.iload_n 2, 1) := dk_28 (dk_at dksX0_reason_0 4 rfl rfl)
theorem dX0_reason_5 : decode cX0_reason 5 = .ok (.iconst 0, 1) := dk_3 (dk_at dksX0_reason_0 5 rfl rfl)
theorem dX0_reason_6 : decode cX0_reason 6 = .ok (.iconst 1, 1) := dk_4 (dk_at dksX0_reason_0 6 rfl rfl)
theorem dX0_reason_7 : decode cX0_reason 7 = .ok (.invokestatic 82, 3) := dk_184 0 82 (dk_at dksX0_reason_0 7 rfl rfl)
theorem dX0_reason_10 : decode cX0_reason 10 = .ok (.ifCond .ne 6, 3) := dk_154 0 6 (dk_at dksX0_reason_0 10 rfl rfl)
theorem dX0_reason_13 : decode cX0_reason 13 = .ok (.bipush (-2), 2) := dk_16 254 (dk_at dksX0_reason_0 13 rfl rfl)
theorem dX0_reason_15 : decode cX0_reason 15 = .ok (.ireturn, 1) := dk_172 (dk_at dksX0_reason_0 15 rfl rfl)
theorem dX0_reason_16 : decode cX0_reason 16 = .ok (.aload_n 0, 1) := dk_42 (dk_at dksX0_reason_0 16 rfl rfl)
theorem dX0_reason_17 : decode cX0_reason 17 = .ok (.getfield 75, 3) := dk_180 0 75 (dk_at dksX0_reason_0 17 rfl rfl)
theorem dX0_reason_20 : decode cX0_reason 20 = .ok (.ifnonnull 7, 3) := dk_199 0 7 (dk_at dksX0_reason_0 20 rfl rfl)
theorem dX0_reason_23 : decode cX0_reason 23 = .ok (.aconst_null, 1) := dk_1 (dk_at dksX0_reason_0 23 rfl rfl)
theorem dX0_reason_24 : decode cX0_reason 24 = .ok (.goto 11, 3) := dk_167 0 11 (dk_at dksX0_reason_1 0 rfl rfl)
theorem dX0_reason_27 : decode cX0_reason 27 = .ok (.aload_n 0, 1) := dk_42 (dk_at dksX0_reason_1 3 rfl rfl)
theorem dX0_reason_28 : decode cX0_reason 28 = .ok (.getfield 75, 3) := dk_180 0 75 (dk_at dksX0_reason_1 4 rfl rfl)
theorem dX0_reason_31 : decode cX0_reason 31 = .ok (.iload_n 1, 1) := dk_27 (dk_at dksX0_reason_1 7 rfl rfl)
theorem dX0_reason_32 : decode cX0_reason 32 = .ok (.invokevirtual 380, 3) := dk_182 1 124 (dk_at dksX0_reason_1 8 rfl rfl)
theorem dX0_reason_35 : decode cX0_reason 35 = .ok (.astore_n 3, 1) := dk_78 (dk_at dksX0_reason_1 11 rfl rfl)
theorem dX0_reason_36 : decode cX0_reason 36 = .ok (.aload_n 3, 1) := dk_45 (dk_at dksX0_reason_1 12 rfl rfl)
theorem dX0_reason_37 : decode cX0_reason 37 = .ok (.ifnonnull 8, 3) := dk_199 0 8 (dk_at dksX0_reason_1 13 rfl rfl)
theorem dX0_reason_40 : decode cX0_reason 40 = .ok (.bipush (-4), 2) := dk_16 252 (dk_at dksX0_reason_1 16 rfl rfl)
theorem dX0_reason_42 : decode cX0_reason 42 = .ok (.goto 19, 3) := dk_167 0 19 (dk_at dksX0_reason_1 18 rfl rfl)
theorem dX0_reason_45 : decode cX0_reason 45 = .ok (.iload_n 2, 1) := dk_28 (dk_at dksX0_reason_1 21 rfl rfl)
theorem dX0_reason_46 : decode cX0_reason 46 = .ok (.iconst 1, 1) := dk_4 (dk_at dksX0_reason_1 22 rfl rfl)
theorem dX0_reason_47 : decode cX0_reason 47 = .ok (.if_icmp .ne 10, 3) := dk_160 0 10 (dk_at dksX0_reason_2 0 rfl rfl)
theorem dX0_reason_50 : decode cX0_reason 50 = .ok (.aload_n 3, 1) := dk_45 (dk_at dksX0_reason_2 3 rfl rfl)
theorem dX0_reason_51 : decode cX0_reason 51 = .ok (.getfield 384, 3) := dk_180 1 128 (dk_at dksX0_reason_2 4 rfl rfl)
theorem dX0_reason_54 : decode cX0_reason 54 = .ok (.goto 7, 3) := dk_167 0 7 (dk_at dksX0_reason_2 7 rfl rfl)
theorem dX0_reason_57 : decode cX0_reason 57 = .ok (.aload_n 3, 1) := dk_45 (dk_at dksX0_reason_2 10 rfl rfl)
theorem dX0_reason_58 : decode cX0_reason 58 = .ok (.getfield 387, 3) := dk_180 1 131 (dk_at dksX0_reason_2 11 rfl rfl)
theorem dX0_reason_61 : decode cX0_reason 61 = .ok (.ireturn, 1) := dk_172 (dk_at dksX0_reason_2 14 rfl rfl)
def dkwX0_parishOf_4 : List UInt8 := [172, 42, 27, 182, 1, 155, 172, 42, 27, 182, 1, 158, 172, 16, 254, 172]
abbrev dktX0_parishOf_4 : List UInt8 := dkwX0_parishOf_4 ++ []
def dkwX0_parishOf_3 : List UInt8 := [172, 45, 180, 1, 147, 154, 0, 8, 16, 252, 167, 0, 9, 45, 180, 1, 148, 3, 46, 172, 45, 180, 1, 152]
abbrev dktX0_parishOf_3 : List UInt8 := dkwX0_parishOf_3 ++ dktX0_parishOf_4
def dkwX0_parishOf_2 : List UInt8 := [45, 180, 0, 184, 172, 45, 180, 0, 130, 172, 45, 182, 0, 154, 172, 45, 180, 0, 158, 172, 45, 180, 1, 147]
abbrev dktX0_parishOf_2 : List UInt8 := dkwX0_parishOf_2 ++ dktX0_parishOf_3
def dkwX0_parishOf_1 : List UInt8 := [170, 0, 0, 0, 0, 0, 112, 0, 0, 0, 0, 0, 0, 0, 8, 0, 0, 0, 51, 0, 0, 0, 56, 0, 0, 0, 61, 0, 0, 0, 66, 0, 0, 0, 71, 0, 0, 0, 76, 0, 0, 0, 95, 0, 0, 0, 100, 0, 0, 0, 106]
abbrev dktX0_parishOf_1 : List UInt8 := dkwX0_parishOf_1 ++ dktX0_parishOf_2
def dkwX0_parishOf_0 : List UInt8 := [42, 27, 182, 0, 124, 154, 0, 5, 2, 172, 42, 180, 0, 22, 180, 0, 101, 27, 50, 78, 28]
abbrev dktX0_parishOf_0 : List UInt8 := dkwX0_parishOf_0 ++ dktX0_parishOf_1
theorem dksX0_parishOf_0 : cX0_parishOf.data.toList.drop 0 = dktX0_parishOf_0 := by decide +kernel
theorem dksX0_parishOf_1 : cX0_parishOf.data.toList.drop 21 = dktX0_parishOf_1 := dk_seg dksX0_parishOf_0 21 rfl rfl
theorem dksX0_parishOf_2 : cX0_parishOf.data.toList.drop 72 = dktX0_parishOf_2 := dk_seg dksX0_parishOf_1 51 rfl rfl
theorem dksX0_parishOf_3 : cX0_parishOf.data.toList.drop 96 = dktX0_parishOf_3 := dk_seg dksX0_parishOf_2 24 rfl rfl
theorem dksX0_parishOf_4 : cX0_parishOf.data.toList.drop 120 = dktX0_parishOf_4 := dk_seg dksX0_parishOf_3 24 rfl rfl
theorem dX0_parishOf_0 : decode cX0_parishOf 0 = .ok (.aload_n 0, 1) := dk_42 (dk_at dksX0_parishOf_0 0 rfl rfl)
theorem dX0_parishOf_1 : decode cX0_parishOf 1 = .ok (.iload_n 1, 1) := dk_27 (dk_at dksX0_parishOf_0 1 rfl rfl)
theorem dX0_parishOf_2 : decode cX0_parishOf 2 = .ok (.invokevirtual 124, 3) := dk_182 0 124 (dk_at dksX0_parishOf_0 2 rfl rfl)
theorem dX0_parishOf_5 : decode cX0_parishOf 5 = .ok (.ifCond .ne 5, 3) := dk_154 0 5 (dk_at dksX0_parishOf_0 5 rfl rfl)
theorem dX0_parishOf_8 : decode cX0_parishOf 8 = .ok (.iconst (-1), 1) := dk_2 (dk_at dksX0_parishOf_0 8 rfl rfl)
theorem dX0_parishOf_9 : decode cX0_parishOf 9 = .ok (.ireturn, 1) := dk_172 (dk_at dksX0_parishOf_0 9 rfl rfl)
theorem dX0_parishOf_10 : decode cX0_parishOf 10 = .ok (.aload_n 0, 1) := dk_42 (dk_at dksX0_parishOf_0 10 rfl rfl)
theorem dX0_parishOf_11 : decode cX0_parishOf 11 = .ok (.getfield 22, 3) := dk_180 0 22 (dk_at dksX0_parishOf_0 11 rfl rfl)
theorem dX0_parishOf_14 : decode cX0_parishOf 14 = .ok (.getfield 101, 3) := dk_180 0 101 (dk_at dksX0_parishOf_0 14 rfl rfl)
theorem dX0_parishOf_17 : decode cX0_parishOf 17 = .ok (.iload_n 1, 1) := dk_27 (dk_at dksX0_parishOf_0 17 rfl rfl)
theorem dX0_parishOf_18 : decode cX0_parishOf 18 = .ok (.aaload, 1) := dk_50 (dk_at dksX0_parishOf_0 18 rfl rfl)
theorem dX0_parishOf_19 : decode cX0_parishOf 19 = .ok (.astore_n 3, 1) := dk_78 (dk_at dksX0_parishOf_0 19 rfl rfl)
theorem dX0_parishOf_20 : decode cX0_parishOf 20 = .ok (.iload_n 2, 1) := dk_28 (dk_at dksX0_parishOf_0 20 rfl rfl)
theorem dX0_parishOf_21 : decode cX0_parishOf 21 = .ok (.tableswitch 112 0 8 #[51, 56, 61, 66, 71, 76, 95, 100, 106], 51) := by decide +kernel
theorem dX0_parishOf_72 : decode cX0_parishOf 72 = .ok (.aload_n 3, 1) := dk_45 (dk_at dksX0_parishOf_2 0 rfl rfl)
theorem dX0_parishOf_73 : decode cX0_parishOf 73 = .ok (.getfield 184, 3) := dk_180 0 184 (dk_at dksX0_parishOf_2 1 rfl rfl)
theorem dX0_parishOf_76 : decode cX0_parishOf 76 = .ok (.ireturn, 1) := dk_172 (dk_at dksX0_parishOf_2 4 rfl rfl)
theorem dX0_parishOf_77 : decode cX0_parishOf 77 = .ok (.aload_n 3, 1) := dk_45 (dk_at dksX0_parishOf_2 5 rfl rfl)
theorem dX0_parishOf_78 : decode cX0_parishOf 78 = .ok (.getfield 130, 3) := dk_180 0 130 (dk_at dksX0_parishOf_2 6 rfl rfl)
theorem dX0_parishOf_81 : decode cX0_parishOf 81 = .ok (.ireturn, 1) := dk_172 (dk_at dksX0_parishOf_2 9 rfl rfl)
theorem dX0_parishOf_82 : decode cX0_parishOf 82 = .ok (.aload_n 3, 1) := dk_45 (dk_at dksX0_parishOf_2 10 rfl rfl)
theorem dX0_parishOf_83 : decode cX0_parishOf 83 = .ok (.invokevirtual 154, 3) := dk_182 0 154 (dk_at dksX0_parishOf_2 11 rfl rfl)
theorem dX0_parishOf_86 : decode cX0_parishOf 86 = .ok (.ireturn, 1) := dk_172 (dk_at dksX0_parishOf_2 14 rfl rfl)
theorem dX0_parishOf_87 : decode cX0_parishOf 87 = .ok (.aload_n 3, 1) := dk_45 (dk_at dksX0_parishOf_2 15 rfl rfl)
theorem dX0_parishOf_88 : decode cX0_parishOf 88 = .ok (.getfield 158, 3) := dk_180 0 158 (dk_at dksX0_parishOf_2 16 rfl rfl)
theorem dX0_parishOf_91 : decode cX0_parishOf 91 = .ok (.ireturn, 1) := dk_172 (dk_at dksX0_parishOf_2 19 rfl rfl)
theorem dX0_parishOf_92 : decode cX0_parishOf 92 = .ok (.aload_n 3, 1) := dk_45 (dk_at dksX0_parishOf_2 20 rfl rfl)
theorem dX0_parishOf_93 : decode cX0_parishOf 93 = .ok (.getfield 403, 3) := dk_180 1 147 (dk_at dksX0_parishOf_2 21 rfl rfl)
theorem dX0_parishOf_96 : decode cX0_parishOf 96 = .ok (.ireturn, 1) := dk_172 (dk_at dksX0_parishOf_3 0 rfl rfl)
theorem dX0_parishOf_97 : decode cX0_parishOf 97 = .ok (.aload_n 3, 1) := dk_45 (dk_at dksX0_parishOf_3 1 rfl rfl)
theorem dX0_parishOf_98 : decode cX0_parishOf 98 = .ok (.getfield 403, 3) := dk_180 1 147 (dk_at dksX0_parishOf_3 2 rfl rfl)
theorem dX0_parishOf_101 : decode cX0_parishOf 101 = .ok (.ifCond .ne 8, 3) := dk_154 0 8 (dk_at dksX0_parishOf_3 5 rfl rfl)
theorem dX0_parishOf_104 : decode cX0_parishOf 104 = .ok (.bipush (-4), 2) := dk_16 252 (dk_at dksX0_parishOf_3 8 rfl rfl)
theorem dX0_parishOf_106 : decode cX0_parishOf 106 = .ok (.goto 9, 3) := dk_167 0 9 (dk_at dksX0_parishOf_3 10 rfl rfl)
theorem dX0_parishOf_109 : decode cX0_parishOf 109 = .ok (.aload_n 3, 1) := dk_45 (dk_at dksX0_parishOf_3 13 rfl rfl)
theorem dX0_parishOf_110 : decode cX0_parishOf 110 = .ok (.getfield 404, 3) := dk_180 1 148 (dk_at dksX0_parishOf_3 14 rfl rfl)
theorem dX0_parishOf_113 : decode cX0_parishOf 113 = .ok (.iconst 0, 1) := dk_3 (dk_at dksX0_parishOf_3 17 rfl rfl)
theorem dX0_parishOf_114 : decode cX0_parishOf 114 = .ok (.iaload, 1) := dk_46 (dk_at dksX0_parishOf_3 18 rfl rfl)
theorem dX0_parishOf_115 : decode cX0_parishOf 115 = .ok (.ireturn, 1) := dk_172 (dk_at dksX0_parishOf_3 19 rfl rfl)
theorem dX0_parishOf_116 : decode cX0_parishOf 116 = .ok (.aload_n 3, 1) := dk_45 (dk_at dksX0_parishOf_3 20 rfl rfl)
theorem dX0_parishOf_117 : decode cX0_parishOf 117 = .ok (.getfield 408, 3) := dk_180 1 152 (dk_at dksX0_parishOf_3 21 rfl rfl)
theorem dX0_parishOf_120 : decode cX0_parishOf 120 = .ok (.ireturn, 1) := dk_172 (dk_at dksX0_parishOf_4 0 rfl rfl)
theorem dX0_parishOf_121 : decode cX0_parishOf 121 = .ok (.aload_n 0, 1) := dk_42 (dk_at dksX0_parishOf_4 1 rfl rfl)
theorem dX0_parishOf_122 : decode cX0_parishOf 122 = .ok (.iload_n 1, 1) := dk_27 (dk_at dksX0_parishOf_4 2 rfl rfl)
theorem dX0_parishOf_123 : decode cX0_parishOf 123 = .ok (.invokevirtual 411, 3) := dk_182 1 155 (dk_at dksX0_parishOf_4 3 rfl rfl)
theorem dX0_parishOf_126 : decode cX0_parishOf 126 = .ok (.ireturn, 1) := dk_172 (dk_at dksX0_parishOf_4 6 rfl rfl)
theorem dX0_parishOf_127 : decode cX0_parishOf 127 = .ok (.aload_n 0, 1) := dk_42 (dk_at dksX0_parishOf_4 7 rfl rfl)
theorem dX0_parishOf_128 : decode cX0_parishOf 128 = .ok (.iload_n 1, 1) := dk_27 (dk_at dksX0_parishOf_4 8 rfl rfl)
theorem dX0_parishOf_129 : decode cX0_parishOf 129 = .ok (.invokevirtual 414, 3) := dk_182 1 158 (dk_at dksX0_parishOf_4 9 rfl rfl)
theorem dX0_parishOf_132 : decode cX0_parishOf 132 = .ok (.ireturn, 1) := dk_172 (dk_at dksX0_parishOf_4 12 rfl rfl)
theorem dX0_parishOf_133 : decode cX0_parishOf 133 = .ok (.bipush (-2), 2) := dk_16 254 (dk_at dksX0_parishOf_4 13 rfl rfl)
theorem dX0_parishOf_135 : decode cX0_parishOf 135 = .ok (.ireturn, 1) := dk_172 (dk_at dksX0_parishOf_4 15 rfl rfl)
def dkwX0_inBays_3 : List UInt8 := [180, 0, 198, 167, 0, 4, 3, 96, 61, 167, 255, 213, 132, 5, 1, 167, 255, 187, 28, 172]
abbrev dktX0_inBays_3 : List UInt8 := dkwX0_inBays_3 ++ []
def dkwX0_inBays_2 : List UInt8 := [25, 7, 185, 1, 143, 1, 0, 192, 0, 180, 58, 8, 28, 25, 8, 180, 0, 179, 27, 160, 0, 11, 25, 8]
abbrev dktX0_inBays_2 : List UInt8 := dkwX0_inBays_2 ++ dktX0_inBays_3
def dkwX0_inBays_1 : List UInt8 := [45, 21, 5, 50, 58, 6, 25, 6, 182, 1, 134, 58, 7, 25, 7, 185, 1, 138, 1, 0, 153, 0, 39]
abbrev dktX0_inBays_1 : List UInt8 := dkwX0_inBays_1 ++ dktX0_inBays_2
def dkwX0_inBays_0 : List UInt8 := [3, 61, 42, 180, 0, 22, 180, 0, 150, 78, 45, 190, 54, 4, 3, 54, 5, 21, 5, 21, 4, 162, 0, 68]
abbrev dktX0_inBays_0 : List UInt8 := dkwX0_inBays_0 ++ dktX0_inBays_1
theorem dksX0_inBays_0 : cX0_inBays.data.toList.drop 0 = dktX0_inBays_0 := by decide +kernel
theorem dksX0_inBays_1 : cX0_inBays.data.toList.drop 24 = dktX0_inBays_1 := dk_seg dksX0_inBays_0 24 rfl rfl
theorem dksX0_inBays_2 : cX0_inBays.data.toList.drop 47 = dktX0_inBays_2 := dk_seg dksX0_inBays_1 23 rfl rfl
theorem dksX0_inBays_3 : cX0_inBays.data.toList.drop 71 = dktX0_inBays_3 := dk_seg dksX0_inBays_2 24 rfl rfl
theorem dX0_inBays_0 : decode cX0_inBays 0 = .ok (.iconst 0, 1) := dk_3 (dk_at dksX0_inBays_0 0 rfl rfl)
theorem dX0_inBays_1 : decode cX0_inBays 1 = .ok (.istore_n 2, 1) := dk_61 (dk_at dksX0_inBays_0 1 rfl rfl)
theorem dX0_inBays_2 : decode cX0_inBays 2 = .ok (.aload_n 0, 1) := dk_42 (dk_at dksX0_inBays_0 2 rfl rfl)
theorem dX0_inBays_3 : decode cX0_inBays 3 = .ok (.getfield 22, 3) := dk_180 0 22 (dk_at dksX0_inBays_0 3 rfl rfl)
theorem dX0_inBays_6 : decode cX0_inBays 6 = .ok (.getfield 150, 3) := dk_180 0 150 (dk_at dksX0_inBays_0 6 rfl rfl)
theorem dX0_inBays_9 : decode cX0_inBays 9 = .ok (.astore_n 3, 1) := dk_78 (dk_at dksX0_inBays_0 9 rfl rfl)
theorem dX0_inBays_10 : decode cX0_inBays 10 = .ok (.aload_n 3, 1) := dk_45 (dk_at dksX0_inBays_0 10 rfl rfl)
theorem dX0_inBays_11 : decode cX0_inBays 11 = .ok (.arraylength, 1) := dk_190 (dk_at dksX0_inBays_0 11 rfl rfl)
theorem dX0_inBays_12 : decode cX0_inBays 12 = .ok (.istore 4, 2) := dk_54 4 (dk_at dksX0_inBays_0 12 rfl rfl)
theorem dX0_inBays_14 : decode cX0_inBays 14 = .ok (.iconst 0, 1) := dk_3 (dk_at dksX0_inBays_0 14 rfl rfl)
theorem dX0_inBays_15 : decode cX0_inBays 15 = .ok (.istore 5, 2) := dk_54 5 (dk_at dksX0_inBays_0 15 rfl rfl)
theorem dX0_inBays_17 : decode cX0_inBays 17 = .ok (.iload 5, 2) := dk_21 5 (dk_at dksX0_inBays_0 17 rfl rfl)
theorem dX0_inBays_19 : decode cX0_inBays 19 = .ok (.iload 4, 2) := dk_21 4 (dk_at dksX0_inBays_0 19 rfl rfl)
theorem dX0_inBays_21 : decode cX0_inBays 21 = .ok (.if_icmp .ge 68, 3) := dk_162 0 68 (dk_at dksX0_inBays_0 21 rfl rfl)
theorem dX0_inBays_24 : decode cX0_inBays 24 = .ok (.aload_n 3, 1) := dk_45 (dk_at dksX0_inBays_1 0 rfl rfl)
theorem dX0_inBays_25 : decode cX0_inBays 25 = .ok (.iload 5, 2) := dk_21 5 (dk_at dksX0_inBays_1 1 rfl rfl)
theorem dX0_inBays_27 : decode cX0_inBays 27 = .ok (.aaload, 1) := dk_50 (dk_at dksX0_inBays_1 3 rfl rfl)
theorem dX0_inBays_28 : decode cX0_inBays 28 = .ok (.astore 6, 2) := dk_58 6 (dk_at dksX0_inBays_1 4 rfl rfl)
theorem dX0_inBays_30 : decode cX0_inBays 30 = .ok (.aload 6, 2) := dk_25 6 (dk_at dksX0_inBays_1 6 rfl rfl)
theorem dX0_inBays_32 : decode cX0_inBays 32 = .ok (.invokevirtual 390, 3) := dk_182 1 134 (dk_at dksX0_inBays_1 8 rfl rfl)
theorem dX0_inBays_35 : decode cX0_inBays 35 = .ok (.astore 7, 2) := dk_58 7 (dk_at dksX0_inBays_1 11 rfl rfl)
theorem dX0_inBays_37 : decode cX0_inBays 37 = .ok (.aload 7, 2) := dk_25 7 (dk_at dksX0_inBays_1 13 rfl rfl)
theorem dX0_inBays_39 : decode cX0_inBays 39 = .ok (.invokeinterface 394 1, 5) := by decide +kernel
theorem dX0_inBays_44 : decode cX0_inBays 44 = .ok (.ifCond .eq 39, 3) := dk_153 0 39 (dk_at dksX0_inBays_1 20 rfl rfl)
theorem dX0_inBays_47 : decode cX0_inBays 47 = .ok (.aload 7, 2) := dk_25 7 (dk_at dksX0_inBays_2 0 rfl rfl)
theorem dX0_inBays_49 : decode cX0_inBays 49 = .ok (.invokeinterface 399 1, 5) := by decide +kernel
theorem dX0_inBays_54 : decode cX0_inBays 54 = .ok (.checkcast 180, 3) := dk_192 0 180 (dk_at dksX0_inBays_2 7 rfl rfl)
theorem dX0_inBays_57 : decode cX0_inBays 57 = .ok (.astore 8, 2) := dk_58 8 (dk_at dksX0_inBays_2 10 rfl rfl)
theorem dX0_inBays_59 : decode cX0_inBays 59 = .ok (.iload_n 2, 1) := dk_28 (dk_at dksX0_inBays_2 12 rfl rfl)
theorem dX0_inBays_60 : decode cX0_inBays 60 = .ok (.aload 8, 2) := dk_25 8 (dk_at dksX0_inBays_2 13 rfl rfl)
theorem dX0_inBays_62 : decode cX0_inBays 62 = .ok (.getfield 179, 3) := dk_180 0 179 (dk_at dksX0_inBays_2 15 rfl rfl)
theorem dX0_inBays_65 : decode cX0_inBays 65 = .ok (.iload_n 1, 1) := dk_27 (dk_at dksX0_inBays_2 18 rfl rfl)
theorem dX0_inBays_66 : decode cX0_inBays 66 = .ok (.if_icmp .ne 11, 3) := dk_160 0 11 (dk_at dksX0_inBays_2 19 rfl rfl)
theorem dX0_inBays_69 : decode cX0_inBays 69 = .ok (.aload 8, 2) := dk_25 8 (dk_at dksX0_inBays_2 22 rfl rfl)
theorem dX0_inBays_71 : decode cX0_inBays 71 = .ok (.getfield 198, 3) := dk_180 0 198 (dk_at dksX0_inBays_3 0 rfl rfl)
theorem dX0_inBays_74 : decode cX0_inBays 74 = .ok (.goto 4, 3) := dk_167 0 4 (dk_at dksX0_inBays_3 3 rfl rfl)
theorem dX0_inBays_77 : decode cX0_inBays 77 = .ok (.iconst 0, 1) := dk_3 (dk_at dksX0_inBays_3 6 rfl rfl)
theorem dX0_inBays_78 : decode cX0_inBays 78 = .ok (.iadd, 1) := dk_96 (dk_at dksX0_inBays_3 7 rfl rfl)
theorem dX0_inBays_79 : decode cX0_inBays 79 = .ok (.istore_n 2, 1) := dk_61 (dk_at dksX0_inBays_3 8 rfl rfl)
theorem dX0_inBays_80 : decode cX0_inBays 80 = .ok (.goto (-43), 3) := dk_167 255 213 (dk_at dksX0_inBays_3 9 rfl rfl)
theorem dX0_inBays_83 : decode cX0_inBays 83 = .ok (.iinc 5 1, 3) := dk_132 5 1 (dk_at dksX0_inBays_3 12 rfl rfl)
theorem dX0_inBays_86 : decode cX0_inBays 86 = .ok (.goto (-69), 3) := dk_167 255 187 (dk_at dksX0_inBays_3 15 rfl rfl)
theorem dX0_inBays_89 : decode cX0_inBays 89 = .ok (.iload_n 2, 1) := dk_28 (dk_at dksX0_inBays_3 18 rfl rfl)
theorem dX0_inBays_90 : decode cX0_inBays 90 = .ok (.ireturn, 1) := dk_172 (dk_at dksX0_inBays_3 19 rfl rfl)
def dkwX0_rankOf_1 : List UInt8 := [153, 0, 7, 4, 167, 0, 4, 3, 96, 61, 132, 3, 1, 167, 255, 225, 28, 172]
abbrev dktX0_rankOf_1 : List UInt8 := dkwX0_rankOf_1 ++ []
def dkwX0_rankOf_0 : List UInt8 := [3, 61, 3, 62, 29, 42, 180, 0, 22, 180, 0, 79, 162, 0, 26, 28, 42, 29, 27, 182, 1, 188]
abbrev dktX0_rankOf_0 : List UInt8 := dkwX0_rankOf_0 ++ dktX0_rankOf_1
theorem dksX0_rankOf_0 : cX0_rankOf.data.toList.drop 0 = dktX0_rankOf_0 := by decide +kernel
theorem dksX0_rankOf_1 : cX0_rankOf.data.toList.drop 22 = dktX0_rankOf_1 := dk_seg dksX0_rankOf_0 22 rfl rfl
theorem dX0_rankOf_0 : decode cX0_rankOf 0 = .ok (.iconst 0, 1) := dk_3 (dk_at dksX0_rankOf_0 0 rfl rfl)
theorem dX0_rankOf_1 : decode cX0_rankOf 1 = .ok (.istore_n 2, 1) := dk_61 (dk_at dksX0_rankOf_0 1 rfl rfl)
theorem dX0_rankOf_2 : decode cX0_rankOf 2 = .ok (.iconst 0, 1) := dk_3 (dk_at dksX0_rankOf_0 2 rfl rfl)
theorem dX0_rankOf_3 : decode cX0_rankOf 3 = .ok (.istore_n 3, 1) := dk_62 (dk_at dksX0_rankOf_0 3 rfl rfl)
theorem dX0_rankOf_4 : decode cX0_rankOf 4 = .ok (.iload_n 3, 1) := dk_29 (dk_at dksX0_rankOf_0 4 rfl rfl)
theorem dX0_rankOf_5 : decode cX0_rankOf 5 = .ok (.aload_n 0, 1) := dk_42 (dk_at dksX0_rankOf_0 5 rfl rfl)
theorem dX0_rankOf_6 : decode cX0_rankOf 6 = .ok (.getfield 22, 3) := dk_180 0 22 (dk_at dksX0_rankOf_0 6 rfl rfl)
theorem dX0_rankOf_9 : decode cX0_rankOf 9 = .ok (.getfield 79, 3) := dk_180 0 79 (dk_at dksX0_rankOf_0 9 rfl rfl)
theorem dX0_rankOf_12 : decode cX0_rankOf 12 = .ok (.if_icmp .ge 26, 3) := dk_162 0 26 (dk_at dksX0_rankOf_0 12 rfl rfl)
theorem dX0_rankOf_15 : decode cX0_rankOf 15 = .ok (.iload_n 2, 1) := dk_28 (dk_at dksX0_rankOf_0 15 rfl rfl)
theorem dX0_rankOf_16 : decode cX0_rankOf 16 = .ok (.aload_n 0, 1) := dk_42 (dk_at dksX0_rankOf_0 16 rfl rfl)
theorem dX0_rankOf_17 : decode cX0_rankOf 17 = .ok (.iload_n 3, 1) := dk_29 (dk_at dksX0_rankOf_0 17 rfl rfl)
theorem dX0_rankOf_18 : decode cX0_rankOf 18 = .ok (.iload_n 1, 1) := dk_27 (dk_at dksX0_rankOf_0 18 rfl rfl)
theorem dX0_rankOf_19 : decode cX0_rankOf 19 = .ok (.invokevirtual 444, 3) := dk_182 1 188 (dk_at dksX0_rankOf_0 19 rfl rfl)
theorem dX0_rankOf_22 : decode cX0_rankOf 22 = .ok (.ifCond .eq 7, 3) := dk_153 0 7 (dk_at dksX0_rankOf_1 0 rfl rfl)
theorem dX0_rankOf_25 : decode cX0_rankOf 25 = .ok (.iconst 1, 1) := dk_4 (dk_at dksX0_rankOf_1 3 rfl rfl)
theorem dX0_rankOf_26 : decode cX0_rankOf 26 = .ok (.goto 4, 3) := dk_167 0 4 (dk_at dksX0_rankOf_1 4 rfl rfl)
theorem dX0_rankOf_29 : decode cX0_rankOf 29 = .ok (.iconst 0, 1) := dk_3 (dk_at dksX0_rankOf_1 7 rfl rfl)
theorem dX0_rankOf_30 : decode cX0_rankOf 30 = .ok (.iadd, 1) := dk_96 (dk_at dksX0_rankOf_1 8 rfl rfl)
theorem dX0_rankOf_31 : decode cX0_rankOf 31 = .ok (.istore_n 2, 1) := dk_61 (dk_at dksX0_rankOf_1 9 rfl rfl)
theorem dX0_rankOf_32 : decode cX0_rankOf 32 = .ok (.iinc 3 1, 3) := dk_132 3 1 (dk_at dksX0_rankOf_1 10 rfl rfl)
theorem dX0_rankOf_35 : decode cX0_rankOf 35 = .ok (.goto (-31), 3) := dk_167 255 225 (dk_at dksX0_rankOf_1 13 rfl rfl)
theorem dX0_rankOf_38 : decode cX0_rankOf 38 = .ok (.iload_n 2, 1) := dk_28 (dk_at dksX0_rankOf_1 16 rfl rfl)
theorem dX0_rankOf_39 : decode cX0_rankOf 39 = .ok (.ireturn, 1) := dk_172 (dk_at dksX0_rankOf_1 17 rfl rfl)
def dkwX0_isAhead_4 : List UInt8 := [172]
abbrev dktX0_isAhead_4 : List UInt8 := dkwX0_isAhead_4 ++ []
def dkwX0_isAhead_3 : List UInt8 := [182, 0, 154, 164, 0, 7, 4, 167, 0, 17, 3, 167, 0, 13, 27, 28, 162, 0, 7, 4, 167, 0, 4, 3]
abbrev dktX0_isAhead_3 : List UInt8 := dkwX0_isAhead_3 ++ dktX0_isAhead_4
def dkwX0_isAhead_2 : List UInt8 := [167, 0, 4, 3, 172, 45, 182, 0, 154, 25, 4, 182, 0, 154, 159, 0, 23, 45, 182, 0, 154, 25, 4]
abbrev dktX0_isAhead_2 : List UInt8 := dkwX0_isAhead_2 ++ dktX0_isAhead_3
def dkwX0_isAhead_1 : List UInt8 := [180, 0, 158, 25, 4, 180, 0, 158, 159, 0, 21, 45, 180, 0, 158, 25, 4, 180, 0, 158, 164, 0, 7, 4]
abbrev dktX0_isAhead_1 : List UInt8 := dkwX0_isAhead_1 ++ dktX0_isAhead_2
def dkwX0_isAhead_0 : List UInt8 := [42, 180, 0, 22, 180, 0, 101, 27, 50, 78, 42, 180, 0, 22, 180, 0, 101, 28, 50, 58, 4, 45]
abbrev dktX0_isAhead_0 : List UInt8 := dkwX0_isAhead_0 ++ dktX0_isAhead_1
theorem dksX0_isAhead_0 : cX0_isAhead.data.toList.drop 0 = dktX0_isAhead_0 := by decide +kernel
theorem dksX0_isAhead_1 : cX0_isAhead.data.toList.drop 22 = dktX0_isAhead_1 := dk_seg dksX0_isAhead_0 22 rfl rfl
theorem dksX0_isAhead_2 : cX0_isAhead.data.toList.drop 46 = dktX0_isAhead_2 := dk_seg dksX0_isAhead_1 24 rfl rfl
theorem dksX0_isAhead_3 : cX0_isAhead.data.toList.drop 69 = dktX0_isAhead_3 := dk_seg dksX0_isAhead_2 23 rfl rfl
theorem dksX0_isAhead_4 : cX0_isAhead.data.toList.drop 93 = dktX0_isAhead_4 := dk_seg dksX0_isAhead_3 24 rfl rfl
theorem dX0_isAhead_0 : decode cX0_isAhead 0 = .ok (.aload_n 0, 1) := dk_42 (dk_at dksX0_isAhead_0 0 rfl rfl)
theorem dX0_isAhead_1 : decode cX0_isAhead 1 = .ok (.getfield 22, 3) := dk_180 0 22 (dk_at dksX0_isAhead_0 1 rfl rfl)
theorem dX0_isAhead_4 : decode cX0_isAhead 4 = .ok (.getfield 101, 3) := dk_180 0 101 (dk_at dksX0_isAhead_0 4 rfl rfl)
theorem dX0_isAhead_7 : decode cX0_isAhead 7 = .ok (.iload_n 1, 1) := dk_27 (dk_at dksX0_isAhead_0 7 rfl rfl)
theorem dX0_isAhead_8 : decode cX0_isAhead 8 = .ok (.aaload, 1) := dk_50 (dk_at dksX0_isAhead_0 8 rfl rfl)
theorem dX0_isAhead_9 : decode cX0_isAhead 9 = .ok (.astore_n 3, 1) := dk_78 (dk_at dksX0_isAhead_0 9 rfl rfl)
theorem dX0_isAhead_10 : decode cX0_isAhead 10 = .ok (.aload_n 0, 1) := dk_42 (dk_at dksX0_isAhead_0 10 rfl rfl)
theorem dX0_isAhead_11 : decode cX0_isAhead 11 = .ok (.getfield 22, 3) := dk_180 0 22 (dk_at dksX0_isAhead_0 11 rfl rfl)
theorem dX0_isAhead_14 : decode cX0_isAhead 14 = .ok (.getfield 101, 3) := dk_180 0 101 (dk_at dksX0_isAhead_0 14 rfl rfl)
theorem dX0_isAhead_17 : decode cX0_isAhead 17 = .ok (.iload_n 2, 1) := dk_28 (dk_at dksX0_isAhead_0 17 rfl rfl)
theorem dX0_isAhead_18 : decode cX0_isAhead 18 = .ok (.aaload, 1) := dk_50 (dk_at dksX0_isAhead_0 18 rfl rfl)
theorem dX0_isAhead_19 : decode cX0_isAhead 19 = .ok (.astore 4, 2) := dk_58 4 (dk_at dksX0_isAhead_0 19 rfl rfl)
theorem dX0_isAhead_21 : decode cX0_isAhead 21 = .ok (.aload_n 3, 1) := dk_45 (dk_at dksX0_isAhead_0 21 rfl rfl)
theorem dX0_isAhead_22 : decode cX0_isAhead 22 = .ok (.getfield 158, 3) := dk_180 0 158 (dk_at dksX0_isAhead_1 0 rfl rfl)
theorem dX0_isAhead_25 : decode cX0_isAhead 25 = .ok (.aload 4, 2) := dk_25 4 (dk_at dksX0_isAhead_1 3 rfl rfl)
theorem dX0_isAhead_27 : decode cX0_isAhead 27 = .ok (.getfield 158, 3) := dk_180 0 158 (dk_at dksX0_isAhead_1 5 rfl rfl)
theorem dX0_isAhead_30 : decode cX0_isAhead 30 = .ok (.if_icmp .eq 21, 3) := dk_159 0 21 (dk_at dksX0_isAhead_1 8 rfl rfl)
theorem dX0_isAhead_33 : decode cX0_isAhead 33 = .ok (.aload_n 3, 1) := dk_45 (dk_at dksX0_isAhead_1 11 rfl rfl)
theorem dX0_isAhead_34 : decode cX0_isAhead 34 = .ok (.getfield 158, 3) := dk_180 0 158 (dk_at dksX0_isAhead_1 12 rfl rfl)
theorem dX0_isAhead_37 : decode cX0_isAhead 37 = .ok (.aload 4, 2) := dk_25 4 (dk_at dksX0_isAhead_1 15 rfl rfl)
theorem dX0_isAhead_39 : decode cX0_isAhead 39 = .ok (.getfield 158, 3) := dk_180 0 158 (dk_at dksX0_isAhead_1 17 rfl rfl)
theorem dX0_isAhead_42 : decode cX0_isAhead 42 = .ok (.if_icmp .le 7, 3) := dk_164 0 7 (dk_at dksX0_isAhead_1 20 rfl rfl)
theorem dX0_isAhead_45 : decode cX0_isAhead 45 = .ok (.iconst 1, 1) := dk_4 (dk_at dksX0_isAhead_1 23 rfl rfl)
theorem dX0_isAhead_46 : decode cX0_isAhead 46 = .ok (.goto 4, 3) := dk_167 0 4 (dk_at dksX0_isAhead_2 0 rfl rfl)
theorem dX0_isAhead_49 : decode cX0_isAhead 49 = .ok (.iconst 0, 1) := dk_3 (dk_at dksX0_isAhead_2 3 rfl rfl)
theorem dX0_isAhead_50 : decode cX0_isAhead 50 = .ok (.ireturn, 1) := dk_172 (dk_at dksX0_isAhead_2 4 rfl rfl)
theorem dX0_isAhead_51 : decode cX0_isAhead 51 = .ok (.aload_n 3, 1) := dk_45 (dk_at dksX0_isAhead_2 5 rfl rfl)
theorem dX0_isAhead_52 : decode cX0_isAhead 52 = .ok (.invokevirtual 154, 3) := dk_182 0 154 (dk_at dksX0_isAhead_2 6 rfl rfl)
theorem dX0_isAhead_55 : decode cX0_isAhead 55 = .ok (.aload 4, 2) := dk_25 4 (dk_at dksX0_isAhead_2 9 rfl rfl)
theorem dX0_isAhead_57 : decode cX0_isAhead 57 = .ok (.invokevirtual 154, 3) := dk_182 0 154 (dk_at dksX0_isAhead_2 11 rfl rfl)
theorem dX0_isAhead_60 : decode cX0_isAhead 60 = .ok (.if_icmp .eq 23, 3) := dk_159 0 23 (dk_at dksX0_isAhead_2 14 rfl rfl)
theorem dX0_isAhead_63 : decode cX0_isAhead 63 = .ok (.aload_n 3, 1) := dk_45 (dk_at dksX0_isAhead_2 17 rfl rfl)
theorem dX0_isAhead_64 : decode cX0_isAhead 64 = .ok (.invokevirtual 154, 3) := dk_182 0 154 (dk_at dksX0_isAhead_2 18 rfl rfl)
theorem dX0_isAhead_67 : decode cX0_isAhead 67 = .ok (.aload 4, 2) := dk_25 4 (dk_at dksX0_isAhead_2 21 rfl rfl)
theorem dX0_isAhead_69 : decode cX0_isAhead 69 = .ok (.invokevirtual 154, 3) := dk_182 0 154 (dk_at dksX0_isAhead_3 0 rfl rfl)
theorem dX0_isAhead_72 : decode cX0_isAhead 72 = .ok (.if_icmp .le 7, 3) := dk_164 0 7 (dk_at dksX0_isAhead_3 3 rfl rfl)
theorem dX0_isAhead_75 : decode cX0_isAhead 75 = .ok (.iconst 1, 1) := dk_4 (dk_at dksX0_isAhead_3 6 rfl rfl)
theorem dX0_isAhead_76 : decode cX0_isAhead 76 = .ok (.goto 17, 3) := dk_167 0 17 (dk_at dksX0_isAhead_3 7 rfl rfl)
theorem dX0_isAhead_79 : decode cX0_isAhead 79 = .ok (.iconst 0, 1) := dk_3 (dk_at dksX0_isAhead_3 10 rfl rfl)
theorem dX0_isAhead_80 : decode cX0_isAhead 80 = .ok (.goto 13, 3) := dk_167 0 13 (dk_at dksX0_isAhead_3 11 rfl rfl)
theorem dX0_isAhead_83 : decode cX0_isAhead 83 = .ok (.iload_n 1, 1) := dk_27 (dk_at dksX0_isAhead_3 14 rfl rfl)
theorem dX0_isAhead_84 : decode cX0_isAhead 84 = .ok (.iload_n 2, 1) := dk_28 (dk_at dksX0_isAhead_3 15 rfl rfl)
theorem dX0_isAhead_85 : decode cX0_isAhead 85 = .ok (.if_icmp .ge 7, 3) := dk_162 0 7 (dk_at dksX0_isAhead_3 16 rfl rfl)
theorem dX0_isAhead_88 : decode cX0_isAhead 88 = .ok (.iconst 1, 1) := dk_4 (dk_at dksX0_isAhead_3 19 rfl rfl)
theorem dX0_isAhead_89 : decode cX0_isAhead 89 = .ok (.goto 4, 3) := dk_167 0 4 (dk_at dksX0_isAhead_3 20 rfl rfl)
theorem dX0_isAhead_92 : decode cX0_isAhead 92 = .ok (.iconst 0, 1) := dk_3 (dk_at dksX0_isAhead_3 23 rfl rfl)
theorem dX0_isAhead_93 : decode cX0_isAhead 93 = .ok (.ireturn, 1) := dk_172 (dk_at dksX0_isAhead_4 0 rfl rfl)
def dkwX0_bayOf_5 : List UInt8 := [16, 254, 172]
abbrev dktX0_bayOf_5 : List UInt8 := dkwX0_bayOf_5 ++ []
def dkwX0_bayOf_4 : List UInt8 := [192, 0, 180, 58, 6, 21, 4, 4, 25, 6, 180, 0, 179, 120, 128, 54, 4, 167, 255, 222, 21, 4, 172]
abbrev dktX0_bayOf_4 : List UInt8 := dkwX0_bayOf_4 ++ dktX0_bayOf_5
def dkwX0_bayOf_3 : List UInt8 := [182, 1, 134, 58, 5, 25, 5, 185, 1, 138, 1, 0, 153, 0, 30, 25, 5, 185, 1, 143, 1, 0]
abbrev dktX0_bayOf_3 : List UInt8 := dkwX0_bayOf_3 ++ dktX0_bayOf_4
def dkwX0_bayOf_2 : List UInt8 := [45, 180, 0, 164, 172, 45, 180, 0, 191, 172, 42, 180, 0, 22, 45, 182, 1, 161, 172, 3, 54, 4, 45]
abbrev dktX0_bayOf_2 : List UInt8 := dkwX0_bayOf_2 ++ dktX0_bayOf_3
def dkwX0_bayOf_1 : List UInt8 := [170, 0, 0, 0, 0, 0, 0, 100, 0, 0, 0, 0, 0, 0, 0, 3, 0, 0, 0, 32, 0, 0, 0, 37, 0, 0, 0, 42, 0, 0, 0, 51]
abbrev dktX0_bayOf_1 : List UInt8 := dkwX0_bayOf_1 ++ dktX0_bayOf_2
def dkwX0_bayOf_0 : List UInt8 := [27, 184, 0, 143, 154, 0, 5, 2, 172, 42, 180, 0, 22, 180, 0, 150, 27, 50, 78, 28]
abbrev dktX0_bayOf_0 : List UInt8 := dkwX0_bayOf_0 ++ dktX0_bayOf_1
theorem dksX0_bayOf_0 : cX0_bayOf.data.toList.drop 0 = dktX0_bayOf_0 := by decide +kernel
theorem dksX0_bayOf_1 : cX0_bayOf.data.toList.drop 20 = dktX0_bayOf_1 := dk_seg dksX0_bayOf_0 20 rfl rfl
theorem dksX0_bayOf_2 : cX0_bayOf.data.toList.drop 52 = dktX0_bayOf_2 := dk_seg dksX0_bayOf_1 32 rfl rfl
theorem dksX0_bayOf_3 : cX0_bayOf.data.toList.drop 75 = dktX0_bayOf_3 := dk_seg dksX0_bayOf_2 23 rfl rfl
theorem dksX0_bayOf_4 : cX0_bayOf.data.toList.drop 97 = dktX0_bayOf_4 := dk_seg dksX0_bayOf_3 22 rfl rfl
theorem dksX0_bayOf_5 : cX0_bayOf.data.toList.drop 120 = dktX0_bayOf_5 := dk_seg dksX0_bayOf_4 23 rfl rfl
theorem dX0_bayOf_0 : decode cX0_bayOf 0 = .ok (.iload_n 1, 1) := dk_27 (dk_at dksX0_bayOf_0 0 rfl rfl)
theorem dX0_bayOf_1 : decode cX0_bayOf 1 = .ok (.invokestatic 143, 3) := dk_184 0 143 (dk_at dksX0_bayOf_0 1 rfl rfl)
theorem dX0_bayOf_4 : decode cX0_bayOf 4 = .ok (.ifCond .ne 5, 3) := dk_154 0 5 (dk_at dksX0_bayOf_0 4 rfl rfl)
theorem dX0_bayOf_7 : decode cX0_bayOf 7 = .ok (.iconst (-1), 1) := dk_2 (dk_at dksX0_bayOf_0 7 rfl rfl)
theorem dX0_bayOf_8 : decode cX0_bayOf 8 = .ok (.ireturn, 1) := dk_172 (dk_at dksX0_bayOf_0 8 rfl rfl)
theorem dX0_bayOf_9 : decode cX0_bayOf 9 = .ok (.aload_n 0, 1) := dk_42 (dk_at dksX0_bayOf_0 9 rfl rfl)
theorem dX0_bayOf_10 : decode cX0_bayOf 10 = .ok (.getfield 22, 3) := dk_180 0 22 (dk_at dksX0_bayOf_0 10 rfl rfl)
theorem dX0_bayOf_13 : decode cX0_bayOf 13 = .ok (.getfield 150, 3) := dk_180 0 150 (dk_at dksX0_bayOf_0 13 rfl rfl)
theorem dX0_bayOf_16 : decode cX0_bayOf 16 = .ok (.iload_n 1, 1) := dk_27 (dk_at dksX0_bayOf_0 16 rfl rfl)
theorem dX0_bayOf_17 : decode cX0_bayOf 17 = .ok (.aaload, 1) := dk_50 (dk_at dksX0_bayOf_0 17 rfl rfl)
theorem dX0_bayOf_18 : decode cX0_bayOf 18 = .ok (.astore_n 3, 1) := dk_78 (dk_at dksX0_bayOf_0 18 rfl rfl)
theorem dX0_bayOf_19 : decode cX0_bayOf 19 = .ok (.iload_n 2, 1) := dk_28 (dk_at dksX0_bayOf_0 19 rfl rfl)
theorem dX0_bayOf_20 : decode cX0_bayOf 20 = .ok (.tableswitch 100 0 3 #[32, 37, 42, 51], 32) := by decide +kernel
theorem dX0_bayOf_52 : decode cX0_bayOf 52 = .ok (.aload_n 3, 1) := dk_45 (dk_at dksX0_bayOf_2 0 rfl rfl)
theorem dX0_bayOf_53 : decode cX0_bayOf 53 = .ok (.getfield 164, 3) := dk_180 0 164 (dk_at dksX0_bayOf_2 1 rfl rfl)
theorem dX0_bayOf_56 : decode cX0_bayOf 56 = .ok (.ireturn, 1) := dk_172 (dk_at dksX0_bayOf_2 4 rfl rfl)
theorem dX0_bayOf_57 : decode cX0_bayOf 57 = .ok (.aload_n 3, 1) := dk_45 (dk_at dksX0_bayOf_2 5 rfl rfl)
theorem dX0_bayOf_58 : decode cX0_bayOf 58 = .ok (.getfield 191, 3) := dk_180 0 191 (dk_at dksX0_bayOf_2 6 rfl rfl)
theorem dX0_bayOf_61 : decode cX0_bayOf 61 = .ok (.ireturn, 1) := dk_172 (dk_at dksX0_bayOf_2 9 rfl rfl)
theorem dX0_bayOf_62 : decode cX0_bayOf 62 = .ok (.aload_n 0, 1) := dk_42 (dk_at dksX0_bayOf_2 10 rfl rfl)
theorem dX0_bayOf_63 : decode cX0_bayOf 63 = .ok (.getfield 22, 3) := dk_180 0 22 (dk_at dksX0_bayOf_2 11 rfl rfl)
theorem dX0_bayOf_66 : decode cX0_bayOf 66 = .ok (.aload_n 3, 1) := dk_45 (dk_at dksX0_bayOf_2 14 rfl rfl)
theorem dX0_bayOf_67 : decode cX0_bayOf 67 = .ok (.invokevirtual 417, 3) := dk_182 1 161 (dk_at dksX0_bayOf_2 15 rfl rfl)
theorem dX0_bayOf_70 : decode cX0_bayOf 70 = .ok (.ireturn, 1) := dk_172 (dk_at dksX0_bayOf_2 18 rfl rfl)
theorem dX0_bayOf_71 : decode cX0_bayOf 71 = .ok (.iconst 0, 1) := dk_3 (dk_at dksX0_bayOf_2 19 rfl rfl)
theorem dX0_bayOf_72 : decode cX0_bayOf 72 = .ok (.istore 4, 2) := dk_54 4 (dk_at dksX0_bayOf_2 20 rfl rfl)
theorem dX0_bayOf_74 : decode cX0_bayOf 74 = .ok (.aload_n 3, 1) := dk_45 (dk_at dksX0_bayOf_2 22 rfl rfl)
theorem dX0_bayOf_75 : decode cX0_bayOf 75 = .ok (.invokevirtual 390, 3) := dk_182 1 134 (dk_at dksX0_bayOf_3 0 rfl rfl)
theorem dX0_bayOf_78 : decode cX0_bayOf 78 = .ok (.astore 5, 2) := dk_58 5 (dk_at dksX0_bayOf_3 3 rfl rfl)
theorem dX0_bayOf_80 : decode cX0_bayOf 80 = .ok (.aload 5, 2) := dk_25 5 (dk_at dksX0_bayOf_3 5 rfl rfl)
theorem dX0_bayOf_82 : decode cX0_bayOf 82 = .ok (.invokeinterface 394 1, 5) := by decide +kernel
theorem dX0_bayOf_87 : decode cX0_bayOf 87 = .ok (.ifCond .eq 30, 3) := dk_153 0 30 (dk_at dksX0_bayOf_3 12 rfl rfl)
theorem dX0_bayOf_90 : decode cX0_bayOf 90 = .ok (.aload 5, 2) := dk_25 5 (dk_at dksX0_bayOf_3 15 rfl rfl)
theorem dX0_bayOf_92 : decode cX0_bayOf 92 = .ok (.invokeinterface 399 1, 5) := by decide +kernel
theorem dX0_bayOf_97 : decode cX0_bayOf 97 = .ok (.checkcast 180, 3) := dk_192 0 180 (dk_at dksX0_bayOf_4 0 rfl rfl)
theorem dX0_bayOf_100 : decode cX0_bayOf 100 = .ok (.astore 6, 2) := dk_58 6 (dk_at dksX0_bayOf_4 3 rfl rfl)
theorem dX0_bayOf_102 : decode cX0_bayOf 102 = .ok (.iload 4, 2) := dk_21 4 (dk_at dksX0_bayOf_4 5 rfl rfl)
theorem dX0_bayOf_104 : decode cX0_bayOf 104 = .ok (.iconst 1, 1) := dk_4 (dk_at dksX0_bayOf_4 7 rfl rfl)
theorem dX0_bayOf_105 : decode cX0_bayOf 105 = .ok (.aload 6, 2) := dk_25 6 (dk_at dksX0_bayOf_4 8 rfl rfl)
theorem dX0_bayOf_107 : decode cX0_bayOf 107 = .ok (.getfield 179, 3) := dk_180 0 179 (dk_at dksX0_bayOf_4 10 rfl rfl)
theorem dX0_bayOf_110 : decode cX0_bayOf 110 = .ok (.ishl, 1) := dk_120 (dk_at dksX0_bayOf_4 13 rfl rfl)
theorem dX0_bayOf_111 : decode cX0_bayOf 111 = .ok (.ior, 1) := dk_128 (dk_at dksX0_bayOf_4 14 rfl rfl)
theorem dX0_bayOf_112 : decode cX0_bayOf 112 = .ok (.istore 4, 2) := dk_54 4 (dk_at dksX0_bayOf_4 15 rfl rfl)
theorem dX0_bayOf_114 : decode cX0_bayOf 114 = .ok (.goto (-34), 3) := dk_167 255 222 (dk_at dksX0_bayOf_4 17 rfl rfl)
theorem dX0_bayOf_117 : decode cX0_bayOf 117 = .ok (.iload 4, 2) := dk_21 4 (dk_at dksX0_bayOf_4 20 rfl rfl)
theorem dX0_bayOf_119 : decode cX0_bayOf 119 = .ok (.ireturn, 1) := dk_172 (dk_at dksX0_bayOf_4 22 rfl rfl)
theorem dX0_bayOf_120 : decode cX0_bayOf 120 = .ok (.bipush (-2), 2) := dk_16 254 (dk_at dksX0_bayOf_5 0 rfl rfl)
theorem dX0_bayOf_122 : decode cX0_bayOf 122 = .ok (.ireturn, 1) := dk_172 (dk_at dksX0_bayOf_5 2 rfl rfl)
def dkwX0_lotOf_3 : List UInt8 := [167, 0, 5, 16, 254, 172]
abbrev dktX0_lotOf_3 : List UInt8 := dkwX0_lotOf_3 ++ []
def dkwX0_lotOf_2 : List UInt8 := [29, 154, 0, 11, 25, 4, 180, 0, 179, 167, 0, 18, 29, 4, 160, 0, 11, 25, 4, 180, 0, 198]
abbrev dktX0_lotOf_2 : List UInt8 := dkwX0_lotOf_2 ++ dktX0_lotOf_3
def dkwX0_lotOf_1 : List UInt8 := [184, 0, 82, 154, 0, 5, 2, 172, 42, 180, 0, 22, 180, 0, 150, 27, 50, 180, 0, 187, 28, 50, 58, 4]
abbrev dktX0_lotOf_1 : List UInt8 := dkwX0_lotOf_1 ++ dktX0_lotOf_2
def dkwX0_lotOf_0 : List UInt8 := [27, 184, 0, 143, 153, 0, 25, 28, 3, 42, 180, 0, 22, 180, 0, 150, 27, 50, 180, 0, 191, 4, 100]
abbrev dktX0_lotOf_0 : List UInt8 := dkwX0_lotOf_0 ++ dktX0_lotOf_1
theorem dksX0_lotOf_0 : cX0_lotOf.data.toList.drop 0 = dktX0_lotOf_0 := by decide +kernel
theorem dksX0_lotOf_1 : cX0_lotOf.data.toList.drop 23 = dktX0_lotOf_1 := dk_seg dksX0_lotOf_0 23 rfl rfl
theorem dksX0_lotOf_2 : cX0_lotOf.data.toList.drop 47 = dktX0_lotOf_2 := dk_seg dksX0_lotOf_1 24 rfl rfl
theorem dksX0_lotOf_3 : cX0_lotOf.data.toList.drop 69 = dktX0_lotOf_3 := dk_seg dksX0_lotOf_2 22 rfl rfl
theorem dX0_lotOf_0 : decode cX0_lotOf 0 = .ok (.iload_n 1, 1) := dk_27 (dk_at dksX0_lotOf_0 0 rfl rfl)
theorem dX0_lotOf_1 : decode cX0_lotOf 1 = .ok (.invokestatic 143, 3) := dk_184 0 143 (dk_at dksX0_lotOf_0 1 rfl rfl)
theorem dX0_lotOf_4 : decode cX0_lotOf 4 = .ok (.ifCond .eq 25, 3) := dk_153 0 25 (dk_at dksX0_lotOf_0 4 rfl rfl)
theorem dX0_lotOf_7 : decode cX0_lotOf 7 = .ok (.iload_n 2, 1) := dk_28 (dk_at dksX0_lotOf_0 7 rfl rfl)
theorem dX0_lotOf_8 : decode cX0_lotOf 8 = .ok (.iconst 0, 1) := dk_3 (dk_at dksX0_lotOf_0 8 rfl rfl)
theorem dX0_lotOf_9 : decode cX0_lotOf 9 = .ok (.aload_n 0, 1) := dk_42 (dk_at dksX0_lotOf_0 9 rfl rfl)
theorem dX0_lotOf_10 : decode cX0_lotOf 10 = .ok (.getfield 22, 3) := dk_180 0 22 (dk_at dksX0_lotOf_0 10 rfl rfl)
theorem dX0_lotOf_13 : decode cX0_lotOf 13 = .ok (.getfield 150, 3) := dk_180 0 150 (dk_at dksX0_lotOf_0 13 rfl rfl)
theorem dX0_lotOf_16 : decode cX0_lotOf 16 = .ok (.iload_n 1, 1) := dk_27 (dk_at dksX0_lotOf_0 16 rfl rfl)
theorem dX0_lotOf_17 : decode cX0_lotOf 17 = .ok (.aaload, 1) := dk_50 (dk_at dksX0_lotOf_0 17 rfl rfl)
theorem dX0_lotOf_18 : decode cX0_lotOf 18 = .ok (.getfield 191, 3) := dk_180 0 191 (dk_at dksX0_lotOf_0 18 rfl rfl)
theorem dX0_lotOf_21 : decode cX0_lotOf 21 = .ok (.iconst 1, 1) := dk_4 (dk_at dksX0_lotOf_0 21 rfl rfl)
theorem dX0_lotOf_22 : decode cX0_lotOf 22 = .ok (.isub, 1) := dk_100 (dk_at dksX0_lotOf_0 22 rfl rfl)
theorem dX0_lotOf_23 : decode cX0_lotOf 23 = .ok (.invokestatic 82, 3) := dk_184 0 82 (dk_at dksX0_lotOf_1 0 rfl rfl)
theorem dX0_lotOf_26 : decode cX0_lotOf 26 = .ok (.ifCond .ne 5, 3) := dk_154 0 5 (dk_at dksX0_lotOf_1 3 rfl rfl)
theorem dX0_lotOf_29 : decode cX0_lotOf 29 = .ok (.iconst (-1), 1) := dk_2 (dk_at dksX0_lotOf_1 6 rfl rfl)
theorem dX0_lotOf_30 : decode cX0_lotOf 30 = .ok (.ireturn, 1) := dk_172 (dk_at dksX0_lotOf_1 7 rfl rfl)
theorem dX0_lotOf_31 : decode cX0_lotOf 31 = .ok (.aload_n 0, 1) := dk_42 (dk_at dksX0_lotOf_1 8 rfl rfl)
theorem dX0_lotOf_32 : decode cX0_lotOf 32 = .ok (.getfield 22, 3) := dk_180 0 22 (dk_at dksX0_lotOf_1 9 rfl rfl)
theorem dX0_lotOf_35 : decode cX0_lotOf 35 = .ok (.getfield 150, 3) := dk_180 0 150 (dk_at dksX0_lotOf_1 12 rfl rfl)
theorem dX0_lotOf_38 : decode cX0_lotOf 38 = .ok (.iload_n 1, 1) := dk_27 (dk_at dksX0_lotOf_1 15 rfl rfl)
theorem dX0_lotOf_39 : decode cX0_lotOf 39 = .ok (.aaload, 1) := dk_50 (dk_at dksX0_lotOf_1 16 rfl rfl)
theorem dX0_lotOf_40 : decode cX0_lotOf 40 = .ok (.getfield 187, 3) := dk_180 0 187 (dk_at dksX0_lotOf_1 17 rfl rfl)
theorem dX0_lotOf_43 : decode cX0_lotOf 43 = .ok (.iload_n 2, 1) := dk_28 (dk_at dksX0_lotOf_1 20 rfl rfl)
theorem dX0_lotOf_44 : decode cX0_lotOf 44 = .ok (.aaload, 1) := dk_50 (dk_at dksX0_lotOf_1 21 rfl rfl)
theorem dX0_lotOf_45 : decode cX0_lotOf 45 = .ok (.astore 4, 2) := dk_58 4 (dk_at dksX0_lotOf_1 22 rfl rfl)
theorem dX0_lotOf_47 : decode cX0_lotOf 47 = .ok (.iload_n 3, 1) := dk_29 (dk_at dksX0_lotOf_2 0 rfl rfl)
theorem dX0_lotOf_48 : decode cX0_lotOf 48 = .ok (.ifCond .ne 11, 3) := dk_154 0 11 (dk_at dksX0_lotOf_2 1 rfl rfl)
theorem dX0_lotOf_51 : decode cX0_lotOf 51 = .ok (.aload 4, 2) := dk_25 4 (dk_at dksX0_lotOf_2 4 rfl rfl)
theorem dX0_lotOf_53 : decode cX0_lotOf 53 = .ok (.getfield 179, 3) := dk_180 0 179 (dk_at dksX0_lotOf_2 6 rfl rfl)
theorem dX0_lotOf_56 : decode cX0_lotOf 56 = .ok (.goto 18, 3) := dk_167 0 18 (dk_at dksX0_lotOf_2 9 rfl rfl)
theorem dX0_lotOf_59 : decode cX0_lotOf 59 = .ok (.iload_n 3, 1) := dk_29 (dk_at dksX0_lotOf_2 12 rfl rfl)
theorem dX0_lotOf_60 : decode cX0_lotOf 60 = .ok (.iconst 1, 1) := dk_4 (dk_at dksX0_lotOf_2 13 rfl rfl)
theorem dX0_lotOf_61 : decode cX0_lotOf 61 = .ok (.if_icmp .ne 11, 3) := dk_160 0 11 (dk_at dksX0_lotOf_2 14 rfl rfl)
theorem dX0_lotOf_64 : decode cX0_lotOf 64 = .ok (.aload 4, 2) := dk_25 4 (dk_at dksX0_lotOf_2 17 rfl rfl)
theorem dX0_lotOf_66 : decode cX0_lotOf 66 = .ok (.getfield 198, 3) := dk_180 0 198 (dk_at dksX0_lotOf_2 19 rfl rfl)
theorem dX0_lotOf_69 : decode cX0_lotOf 69 = .ok (.goto 5, 3) := dk_167 0 5 (dk_at dksX0_lotOf_3 0 rfl rfl)
theorem dX0_lotOf_72 : decode cX0_lotOf 72 = .ok (.bipush (-2), 2) := dk_16 254 (dk_at dksX0_lotOf_3 3 rfl rfl)
theorem dX0_lotOf_74 : decode cX0_lotOf 74 = .ok (.ireturn, 1) := dk_172 (dk_at dksX0_lotOf_3 5 rfl rfl)
def dkwX0_floorOf_3 : List UInt8 := [180, 0, 220, 172, 45, 180, 1, 165, 172, 16, 254, 172]
abbrev dktX0_floorOf_3 : List UInt8 := dkwX0_floorOf_3 ++ []
def dkwX0_floorOf_2 : List UInt8 := [45, 180, 0, 210, 172, 45, 180, 0, 210, 154, 0, 8, 16, 252, 167, 0, 7, 45, 180, 0, 213, 172, 45]
abbrev dktX0_floorOf_2 : List UInt8 := dkwX0_floorOf_2 ++ dktX0_floorOf_3
def dkwX0_floorOf_1 : List UInt8 := [170, 0, 0, 0, 0, 0, 0, 64, 0, 0, 0, 0, 0, 0, 0, 3, 0, 0, 0, 32, 0, 0, 0, 37, 0, 0, 0, 54, 0, 0, 0, 59]
abbrev dktX0_floorOf_1 : List UInt8 := dkwX0_floorOf_1 ++ dktX0_floorOf_2
def dkwX0_floorOf_0 : List UInt8 := [27, 184, 0, 199, 154, 0, 5, 2, 172, 42, 180, 0, 22, 180, 0, 202, 27, 50, 78, 28]
abbrev dktX0_floorOf_0 : List UInt8 := dkwX0_floorOf_0 ++ dktX0_floorOf_1
theorem dksX0_floorOf_0 : cX0_floorOf.data.toList.drop 0 = dktX0_floorOf_0 := by decide +kernel
theorem dksX0_floorOf_1 : cX0_floorOf.data.toList.drop 20 = dktX0_floorOf_1 := dk_seg dksX0_floorOf_0 20 rfl rfl
theorem dksX0_floorOf_2 : cX0_floorOf.data.toList.drop 52 = dktX0_floorOf_2 := dk_seg dksX0_floorOf_1 32 rfl rfl
theorem dksX0_floorOf_3 : cX0_floorOf.data.toList.drop 75 = dktX0_floorOf_3 := dk_seg dksX0_floorOf_2 23 rfl rfl
theorem dX0_floorOf_0 : decode cX0_floorOf 0 = .ok (.iload_n 1, 1) := dk_27 (dk_at dksX0_floorOf_0 0 rfl rfl)
theorem dX0_floorOf_1 : decode cX0_floorOf 1 = .ok (.invokestatic 199, 3) := dk_184 0 199 (dk_at dksX0_floorOf_0 1 rfl rfl)
theorem dX0_floorOf_4 : decode cX0_floorOf 4 = .ok (.ifCond .ne 5, 3) := dk_154 0 5 (dk_at dksX0_floorOf_0 4 rfl rfl)
theorem dX0_floorOf_7 : decode cX0_floorOf 7 = .ok (.iconst (-1), 1) := dk_2 (dk_at dksX0_floorOf_0 7 rfl rfl)
theorem dX0_floorOf_8 : decode cX0_floorOf 8 = .ok (.ireturn, 1) := dk_172 (dk_at dksX0_floorOf_0 8 rfl rfl)
theorem dX0_floorOf_9 : decode cX0_floorOf 9 = .ok (.aload_n 0, 1) := dk_42 (dk_at dksX0_floorOf_0 9 rfl rfl)
theorem dX0_floorOf_10 : decode cX0_floorOf 10 = .ok (.getfield 22, 3) := dk_180 0 22 (dk_at dksX0_floorOf_0 10 rfl rfl)
theorem dX0_floorOf_13 : decode cX0_floorOf 13 = .ok (.getfield 202, 3) := dk_180 0 202 (dk_at dksX0_floorOf_0 13 rfl rfl)
theorem dX0_floorOf_16 : decode cX0_floorOf 16 = .ok (.iload_n 1, 1) := dk_27 (dk_at dksX0_floorOf_0 16 rfl rfl)
theorem dX0_floorOf_17 : decode cX0_floorOf 17 = .ok (.aaload, 1) := dk_50 (dk_at dksX0_floorOf_0 17 rfl rfl)
theorem dX0_floorOf_18 : decode cX0_floorOf 18 = .ok (.astore_n 3, 1) := dk_78 (dk_at dksX0_floorOf_0 18 rfl rfl)
theorem dX0_floorOf_19 : decode cX0_floorOf 19 = .ok (.iload_n 2, 1) := dk_28 (dk_at dksX0_floorOf_0 19 rfl rfl)
theorem dX0_floorOf_20 : decode cX0_floorOf 20 = .ok (.tableswitch 64 0 3 #[32, 37, 54, 59], 32) := by decide +kernel
theorem dX0_floorOf_52 : decode cX0_floorOf 52 = .ok (.aload_n 3, 1) := dk_45 (dk_at dksX0_floorOf_2 0 rfl rfl)
theorem dX0_floorOf_53 : decode cX0_floorOf 53 = .ok (.getfield 210, 3) := dk_180 0 210 (dk_at dksX0_floorOf_2 1 rfl rfl)
theorem dX0_floorOf_56 : decode cX0_floorOf 56 = .ok (.ireturn, 1) := dk_172 (dk_at dksX0_floorOf_2 4 rfl rfl)
theorem dX0_floorOf_57 : decode cX0_floorOf 57 = .ok (.aload_n 3, 1) := dk_45 (dk_at dksX0_floorOf_2 5 rfl rfl)
theorem dX0_floorOf_58 : decode cX0_floorOf 58 = .ok (.getfield 210, 3) := dk_180 0 210 (dk_at dksX0_floorOf_2 6 rfl rfl)
theorem dX0_floorOf_61 : decode cX0_floorOf 61 = .ok (.ifCond .ne 8, 3) := dk_154 0 8 (dk_at dksX0_floorOf_2 9 rfl rfl)
theorem dX0_floorOf_64 : decode cX0_floorOf 64 = .ok (.bipush (-4), 2) := dk_16 252 (dk_at dksX0_floorOf_2 12 rfl rfl)
theorem dX0_floorOf_66 : decode cX0_floorOf 66 = .ok (.goto 7, 3) := dk_167 0 7 (dk_at dksX0_floorOf_2 14 rfl rfl)
theorem dX0_floorOf_69 : decode cX0_floorOf 69 = .ok (.aload_n 3, 1) := dk_45 (dk_at dksX0_floorOf_2 17 rfl rfl)
theorem dX0_floorOf_70 : decode cX0_floorOf 70 = .ok (.getfield 213, 3) := dk_180 0 213 (dk_at dksX0_floorOf_2 18 rfl rfl)
theorem dX0_floorOf_73 : decode cX0_floorOf 73 = .ok (.ireturn, 1) := dk_172 (dk_at dksX0_floorOf_2 21 rfl rfl)
theorem dX0_floorOf_74 : decode cX0_floorOf 74 = .ok (.aload_n 3, 1) := dk_45 (dk_at dksX0_floorOf_2 22 rfl rfl)
theorem dX0_floorOf_75 : decode cX0_floorOf 75 = .ok (.getfield 220, 3) := dk_180 0 220 (dk_at dksX0_floorOf_3 0 rfl rfl)
theorem dX0_floorOf_78 : decode cX0_floorOf 78 = .ok (.ireturn, 1) := dk_172 (dk_at dksX0_floorOf_3 3 rfl rfl)
theorem dX0_floorOf_79 : decode cX0_floorOf 79 = .ok (.aload_n 3, 1) := dk_45 (dk_at dksX0_floorOf_3 4 rfl rfl)
theorem dX0_floorOf_80 : decode cX0_floorOf 80 = .ok (.getfield 421, 3) := dk_180 1 165 (dk_at dksX0_floorOf_3 5 rfl rfl)
theorem dX0_floorOf_83 : decode cX0_floorOf 83 = .ok (.ireturn, 1) := dk_172 (dk_at dksX0_floorOf_3 8 rfl rfl)
theorem dX0_floorOf_84 : decode cX0_floorOf 84 = .ok (.bipush (-2), 2) := dk_16 254 (dk_at dksX0_floorOf_3 9 rfl rfl)
theorem dX0_floorOf_86 : decode cX0_floorOf 86 = .ok (.ireturn, 1) := dk_172 (dk_at dksX0_floorOf_3 11 rfl rfl)
def dkwX0_binOf_3 : List UInt8 := [172, 16, 254, 172]
abbrev dktX0_binOf_3 : List UInt8 := dkwX0_binOf_3 ++ []
def dkwX0_binOf_2 : List UInt8 := [45, 180, 0, 238, 172, 45, 180, 0, 230, 172, 45, 180, 0, 253, 172, 45, 180, 0, 250, 172, 45, 180, 1, 168]
abbrev dktX0_binOf_2 : List UInt8 := dkwX0_binOf_2 ++ dktX0_binOf_3
def dkwX0_binOf_1 : List UInt8 := [170, 0, 0, 0, 0, 0, 0, 61, 0, 0, 0, 0, 0, 0, 0, 4, 0, 0, 0, 36, 0, 0, 0, 41, 0, 0, 0, 46, 0, 0, 0, 51, 0, 0, 0, 56]
abbrev dktX0_binOf_1 : List UInt8 := dkwX0_binOf_1 ++ dktX0_binOf_2
def dkwX0_binOf_0 : List UInt8 := [27, 184, 0, 89, 154, 0, 5, 2, 172, 42, 180, 0, 22, 180, 0, 226, 27, 50, 78, 28]
abbrev dktX0_binOf_0 : List UInt8 := dkwX0_binOf_0 ++ dktX0_binOf_1
theorem dksX0_binOf_0 : cX0_binOf.data.toList.drop 0 = dktX0_binOf_0 := by decide +kernel
theorem dksX0_binOf_1 : cX0_binOf.data.toList.drop 20 = dktX0_binOf_1 := dk_seg dksX0_binOf_0 20 rfl rfl
theorem dksX0_binOf_2 : cX0_binOf.data.toList.drop 56 = dktX0_binOf_2 := dk_seg dksX0_binOf_1 36 rfl rfl
theorem dksX0_binOf_3 : cX0_binOf.data.toList.drop 80 = dktX0_binOf_3 := dk_seg dksX0_binOf_2 24 rfl rfl
theorem dX0_binOf_0 : decode cX0_binOf 0 = .ok (.iload_n 1, 1) := dk_27 (dk_at dksX0_binOf_0 0 rfl rfl)
theorem dX0_binOf_1 : decode cX0_binOf 1 = .ok (.invokestatic 89, 3) := dk_184 0 89 (dk_at dksX0_binOf_0 1 rfl rfl)
theorem dX0_binOf_4 : decode cX0_binOf 4 = .ok (.ifCond .ne 5, 3) := dk_154 0 5 (dk_at dksX0_binOf_0 4 rfl rfl)
theorem dX0_binOf_7 : decode cX0_binOf 7 = .ok (.iconst (-1), 1) := dk_2 (dk_at dksX0_binOf_0 7 rfl rfl)
theorem dX0_binOf_8 : decode cX0_binOf 8 = .ok (.ireturn, 1) := dk_172 (dk_at dksX0_binOf_0 8 rfl rfl)
theorem dX0_binOf_9 : decode cX0_binOf 9 = .ok (.aload_n 0, 1) := dk_42 (dk_at dksX0_binOf_0 9 rfl rfl)
theorem dX0_binOf_10 : decode cX0_binOf 10 = .ok (.getfield 22, 3) := dk_180 0 22 (dk_at dksX0_binOf_0 10 rfl rfl)
theorem dX0_binOf_13 : decode cX0_binOf 13 = .ok (.getfield 226, 3) := dk_180 0 226 (dk_at dksX0_binOf_0 13 rfl rfl)
theorem dX0_binOf_16 : decode cX0_binOf 16 = .ok (.iload_n 1, 1) := dk_27 (dk_at dksX0_binOf_0 16 rfl rfl)
theorem dX0_binOf_17 : decode cX0_binOf 17 = .ok (.aaload, 1) := dk_50 (dk_at dksX0_binOf_0 17 rfl rfl)
theorem dX0_binOf_18 : decode cX0_binOf 18 = .ok (.astore_n 3, 1) := dk_78 (dk_at dksX0_binOf_0 18 rfl rfl)
theorem dX0_binOf_19 : decode cX0_binOf 19 = .ok (.iload_n 2, 1) := dk_28 (dk_at dksX0_binOf_0 19 rfl rfl)
theorem dX0_binOf_20 : decode cX0_binOf 20 = .ok (.tableswitch 61 0 4 #[36, 41, 46, 51, 56], 36) := by decide +kernel
theorem dX0_binOf_56 : decode cX0_binOf 56 = .ok (.aload_n 3, 1) := dk_45 (dk_at dksX0_binOf_2 0 rfl rfl)
theorem dX0_binOf_57 : decode cX0_binOf 57 = .ok (.getfield 238, 3) := dk_180 0 238 (dk_at dksX0_binOf_2 1 rfl rfl)
theorem dX0_binOf_60 : decode cX0_binOf 60 = .ok (.ireturn, 1) := dk_172 (dk_at dksX0_binOf_2 4 rfl rfl)
theorem dX0_binOf_61 : decode cX0_binOf 61 = .ok (.aload_n 3, 1) := dk_45 (dk_at dksX0_binOf_2 5 rfl rfl)
theorem dX0_binOf_62 : decode cX0_binOf 62 = .ok (.getfield 230, 3) := dk_180 0 230 (dk_at dksX0_binOf_2 6 rfl rfl)
theorem dX0_binOf_65 : decode cX0_binOf 65 = .ok (.ireturn, 1) := dk_172 (dk_at dksX0_binOf_2 9 rfl rfl)
theorem dX0_binOf_66 : decode cX0_binOf 66 = .ok (.aload_n 3, 1) := dk_45 (dk_at dksX0_binOf_2 10 rfl rfl)
theorem dX0_binOf_67 : decode cX0_binOf 67 = .ok (.getfield 253, 3) := dk_180 0 253 (dk_at dksX0_binOf_2 11 rfl rfl)
theorem dX0_binOf_70 : decode cX0_binOf 70 = .ok (.ireturn, 1) := dk_172 (dk_at dksX0_binOf_2 14 rfl rfl)
theorem dX0_binOf_71 : decode cX0_binOf 71 = .ok (.aload_n 3, 1) := dk_45 (dk_at dksX0_binOf_2 15 rfl rfl)
theorem dX0_binOf_72 : decode cX0_binOf 72 = .ok (.getfield 250, 3) := dk_180 0 250 (dk_at dksX0_binOf_2 16 rfl rfl)
theorem dX0_binOf_75 : decode cX0_binOf 75 = .ok (.ireturn, 1) := dk_172 (dk_at dksX0_binOf_2 19 rfl rfl)
theorem dX0_binOf_76 : decode cX0_binOf 76 = .ok (.aload_n 3, 1) := dk_45 (dk_at dksX0_binOf_2 20 rfl rfl)
theorem dX0_binOf_77 : decode cX0_binOf 77 = .ok (.getfield 424, 3) := dk_180 1 168 (dk_at dksX0_binOf_2 21 rfl rfl)
theorem dX0_binOf_80 : decode cX0_binOf 80 = .ok (.ireturn, 1) := dk_172 (dk_at dksX0_binOf_3 0 rfl rfl)
theorem dX0_binOf_81 : decode cX0_binOf 81 = .ok (.bipush (-2), 2) := dk_16 254 (dk_at dksX0_binOf_3 1 rfl rfl)
theorem dX0_binOf_83 : decode cX0_binOf 83 = .ok (.ireturn, 1) := dk_172 (dk_at dksX0_binOf_3 3 rfl rfl)
def dkwX0_placeOf_3 : List UInt8 := [160, 0, 7, 4, 167, 0, 4, 3, 172, 16, 254, 172]
abbrev dktX0_placeOf_3 : List UInt8 := dkwX0_placeOf_3 ++ []
def dkwX0_placeOf_2 : List UInt8 := [45, 180, 1, 12, 172, 45, 180, 0, 245, 172, 45, 180, 1, 171, 172, 42, 180, 0, 22, 180, 1, 18, 27]
abbrev dktX0_placeOf_2 : List UInt8 := dkwX0_placeOf_2 ++ dktX0_placeOf_3
def dkwX0_placeOf_1 : List UInt8 := [170, 0, 0, 0, 0, 0, 0, 64, 0, 0, 0, 0, 0, 0, 0, 3, 0, 0, 0, 32, 0, 0, 0, 37, 0, 0, 0, 42, 0, 0, 0, 47]
abbrev dktX0_placeOf_1 : List UInt8 := dkwX0_placeOf_1 ++ dktX0_placeOf_2
def dkwX0_placeOf_0 : List UInt8 := [27, 184, 1, 9, 154, 0, 5, 2, 172, 42, 180, 0, 22, 180, 0, 241, 27, 50, 78, 28]
abbrev dktX0_placeOf_0 : List UInt8 := dkwX0_placeOf_0 ++ dktX0_placeOf_1
theorem dksX0_placeOf_0 : cX0_placeOf.data.toList.drop 0 = dktX0_placeOf_0 := by decide +kernel
theorem dksX0_placeOf_1 : cX0_placeOf.data.toList.drop 20 = dktX0_placeOf_1 := dk_seg dksX0_placeOf_0 20 rfl rfl
theorem dksX0_placeOf_2 : cX0_placeOf.data.toList.drop 52 = dktX0_placeOf_2 := dk_seg dksX0_placeOf_1 32 rfl rfl
theorem dksX0_placeOf_3 : cX0_placeOf.data.toList.drop 75 = dktX0_placeOf_3 := dk_seg dksX0_placeOf_2 23 rfl rfl
theorem dX0_placeOf_0 : decode cX0_placeOf 0 = .ok (.iload_n 1, 1) := dk_27 (dk_at dksX0_placeOf_0 0 rfl rfl)
theorem dX0_placeOf_1 : decode cX0_placeOf 1 = .ok (.invokestatic 265, 3) := dk_184 1 9 (dk_at dksX0_placeOf_0 1 rfl rfl)
theorem dX0_placeOf_4 : decode cX0_placeOf 4 = .ok (.ifCond .ne 5, 3) := dk_154 0 5 (dk_at dksX0_placeOf_0 4 rfl rfl)
theorem dX0_placeOf_7 : decode cX0_placeOf 7 = .ok (.iconst (-1), 1) := dk_2 (dk_at dksX0_placeOf_0 7 rfl rfl)
theorem dX0_placeOf_8 : decode cX0_placeOf 8 = .ok (.ireturn, 1) := dk_172 (dk_at dksX0_placeOf_0 8 rfl rfl)
theorem dX0_placeOf_9 : decode cX0_placeOf 9 = .ok (.aload_n 0, 1) := dk_42 (dk_at dksX0_placeOf_0 9 rfl rfl)
theorem dX0_placeOf_10 : decode cX0_placeOf 10 = .ok (.getfield 22, 3) := dk_180 0 22 (dk_at dksX0_placeOf_0 10 rfl rfl)
theorem dX0_placeOf_13 : decode cX0_placeOf 13 = .ok (.getfield 241, 3) := dk_180 0 241 (dk_at dksX0_placeOf_0 13 rfl rfl)
theorem dX0_placeOf_16 : decode cX0_placeOf 16 = .ok (.iload_n 1, 1) := dk_27 (dk_at dksX0_placeOf_0 16 rfl rfl)
theorem dX0_placeOf_17 : decode cX0_placeOf 17 = .ok (.aaload, 1) := dk_50 (dk_at dksX0_placeOf_0 17 rfl rfl)
theorem dX0_placeOf_18 : decode cX0_placeOf 18 = .ok (.astore_n 3, 1) := dk_78 (dk_at dksX0_placeOf_0 18 rfl rfl)
theorem dX0_placeOf_19 : decode cX0_placeOf 19 = .ok (.iload_n 2, 1) := dk_28 (dk_at dksX0_placeOf_0 19 rfl rfl)
theorem dX0_placeOf_20 : decode cX0_placeOf 20 = .ok (.tableswitch 64 0 3 #[32, 37, 42, 47], 32) := by decide +kernel
theorem dX0_placeOf_52 : decode cX0_placeOf 52 = .ok (.aload_n 3, 1) := dk_45 (dk_at dksX0_placeOf_2 0 rfl rfl)
theorem dX0_placeOf_53 : decode cX0_placeOf 53 = .ok (.getfield 268, 3) := dk_180 1 12 (dk_at dksX0_placeOf_2 1 rfl rfl)
theorem dX0_placeOf_56 : decode cX0_placeOf 56 = .ok (.ireturn, 1) := dk_172 (dk_at dksX0_placeOf_2 4 rfl rfl)
theorem dX0_placeOf_57 : decode cX0_placeOf 57 = .ok (.aload_n 3, 1) := dk_45 (dk_at dksX0_placeOf_2 5 rfl rfl)
theorem dX0_placeOf_58 : decode cX0_placeOf 58 = .ok (.getfield 245, 3) := dk_180 0 245 (dk_at dksX0_placeOf_2 6 rfl rfl)
theorem dX0_placeOf_61 : decode cX0_placeOf 61 = .ok (.ireturn, 1) := dk_172 (dk_at dksX0_placeOf_2 9 rfl rfl)
theorem dX0_placeOf_62 : decode cX0_placeOf 62 = .ok (.aload_n 3, 1) := dk_45 (dk_at dksX0_placeOf_2 10 rfl rfl)
theorem dX0_placeOf_63 : decode cX0_placeOf 63 = .ok (.getfield 427, 3) := dk_180 1 171 (dk_at dksX0_placeOf_2 11 rfl rfl)
theorem dX0_placeOf_66 : decode cX0_placeOf 66 = .ok (.ireturn, 1) := dk_172 (dk_at dksX0_placeOf_2 14 rfl rfl)
theorem dX0_placeOf_67 : decode cX0_placeOf 67 = .ok (.aload_n 0, 1) := dk_42 (dk_at dksX0_placeOf_2 15 rfl rfl)
theorem dX0_placeOf_68 : decode cX0_placeOf 68 = .ok (.getfield 22, 3) := dk_180 0 22 (dk_at dksX0_placeOf_2 16 rfl rfl)
theorem dX0_placeOf_71 : decode cX0_placeOf 71 = .ok (.getfield 274, 3) := dk_180 1 18 (dk_at dksX0_placeOf_2 19 rfl rfl)
theorem dX0_placeOf_74 : decode cX0_placeOf 74 = .ok (.iload_n 1, 1) := dk_27 (dk_at dksX0_placeOf_2 22 rfl rfl)
theorem dX0_placeOf_75 : decode cX0_placeOf 75 = .ok (.if_icmp .ne 7, 3) := dk_160 0 7 (dk_at dksX0_placeOf_3 0 rfl rfl)
theorem dX0_placeOf_78 : decode cX0_placeOf 78 = .ok (.iconst 1, 1) := dk_4 (dk_at dksX0_placeOf_3 3 rfl rfl)
theorem dX0_placeOf_79 : decode cX0_placeOf 79 = .ok (.goto 4, 3) := dk_167 0 4 (dk_at dksX0_placeOf_3 4 rfl rfl)
theorem dX0_placeOf_82 : decode cX0_placeOf 82 = .ok (.iconst 0, 1) := dk_3 (dk_at dksX0_placeOf_3 7 rfl rfl)
theorem dX0_placeOf_83 : decode cX0_placeOf 83 = .ok (.ireturn, 1) := dk_172 (dk_at dksX0_placeOf_3 8 rfl rfl)
theorem dX0_placeOf_84 : decode cX0_placeOf 84 = .ok (.bipush (-2), 2) := dk_16 254 (dk_at dksX0_placeOf_3 9 rfl rfl)
theorem dX0_placeOf_86 : decode cX0_placeOf 86 = .ok (.ireturn, 1) := dk_172 (dk_at dksX0_placeOf_3 11 rfl rfl)
def dkwX0_tithe_1 : List UInt8 := [180, 0, 22, 180, 0, 101, 27, 50, 28, 182, 0, 127, 167, 0, 5, 16, 254, 172]
abbrev dktX0_tithe_1 : List UInt8 := dkwX0_tithe_1 ++ []
def dkwX0_tithe_0 : List UInt8 := [42, 27, 182, 0, 124, 154, 0, 5, 2, 172, 28, 4, 17, 3, 231, 184, 0, 82, 153, 0, 19, 42]
abbrev dktX0_tithe_0 : List UInt8 := dkwX0_tithe_0 ++ dktX0_tithe_1
theorem dksX0_tithe_0 : cX0_tithe.data.toList.drop 0 = dktX0_tithe_0 := by decide +kernel
theorem dksX0_tithe_1 : cX0_tithe.data.toList.drop 22 = dktX0_tithe_1 := dk_seg dksX0_tithe_0 22 rfl rfl
theorem dX0_tithe_0 : decode cX0_tithe 0 = .ok (.aload_n 0, 1) := dk_42 (dk_at dksX0_tithe_0 0 rfl rfl)
theorem dX0_tithe_1 : decode cX0_tithe 1 = .ok (.iload_n 1, 1) := dk_27 (dk_at dksX0_tithe_0 1 rfl rfl)
theorem dX0_tithe_2 : decode cX0_tithe 2 = .ok (.invokevirtual 124, 3) := dk_182 0 124 (dk_at dksX0_tithe_0 2 rfl rfl)
theorem dX0_tithe_5 : decode cX0_tithe 5 = .ok (.ifCond .ne 5, 3) := dk_154 0 5 (dk_at dksX0_tithe_0 5 rfl rfl)
theorem dX0_tithe_8 : decode cX0_tithe 8 = .ok (.iconst (-1), 1) := dk_2 (dk_at dksX0_tithe_0 8 rfl rfl)
theorem dX0_tithe_9 : decode cX0_tithe 9 = .ok (.ireturn, 1) := dk_172 (dk_at dksX0_tithe_0 9 rfl rfl)
theorem dX0_tithe_10 : decode cX0_tithe 10 = .ok (.iload_n 2, 1) := dk_28 (dk_at dksX0_tithe_0 10 rfl rfl)
theorem dX0_tithe_11 : decode cX0_tithe 11 = .ok (.iconst 1, 1) := dk_4 (dk_at dksX0_tithe_0 11 rfl rfl)
theorem dX0_tithe_12 : decode cX0_tithe 12 = .ok (.sipush 999, 3) := dk_17 3 231 (dk_at dksX0_tithe_0 12 rfl rfl)
theorem dX0_tithe_15 : decode cX0_tithe 15 = .ok (.invokestatic 82, 3) := dk_184 0 82 (dk_at dksX0_tithe_0 15 rfl rfl)
theorem dX0_tithe_18 : decode cX0_tithe 18 = .ok (.ifCond .eq 19, 3) := dk_153 0 19 (dk_at dksX0_tithe_0 18 rfl rfl)
theorem dX0_tithe_21 : decode cX0_tithe 21 = .ok (.aload_n 0, 1) := dk_42 (dk_at dksX0_tithe_0 21 rfl rfl)
theorem dX0_tithe_22 : decode cX0_tithe 22 = .ok (.getfield 22, 3) := dk_180 0 22 (dk_at dksX0_tithe_1 0 rfl rfl)
theorem dX0_tithe_25 : decode cX0_tithe 25 = .ok (.getfield 101, 3) := dk_180 0 101 (dk_at dksX0_tithe_1 3 rfl rfl)
theorem dX0_tithe_28 : decode cX0_tithe 28 = .ok (.iload_n 1, 1) := dk_27 (dk_at dksX0_tithe_1 6 rfl rfl)
theorem dX0_tithe_29 : decode cX0_tithe 29 = .ok (.aaload, 1) := dk_50 (dk_at dksX0_tithe_1 7 rfl rfl)
theorem dX0_tithe_30 : decode cX0_tithe 30 = .ok (.iload_n 2, 1) := dk_28 (dk_at dksX0_tithe_1 8 rfl rfl)
theorem dX0_tithe_31 : decode cX0_tithe 31 = .ok (.invokevirtual 127, 3) := dk_182 0 127 (dk_at dksX0_tithe_1 9 rfl rfl)
theorem dX0_tithe_34 : decode cX0_tithe 34 = .ok (.goto 5, 3) := dk_167 0 5 (dk_at dksX0_tithe_1 12 rfl rfl)
theorem dX0_tithe_37 : decode cX0_tithe 37 = .ok (.bipush (-2), 2) := dk_16 254 (dk_at dksX0_tithe_1 15 rfl rfl)
theorem dX0_tithe_39 : decode cX0_tithe 39 = .ok (.ireturn, 1) := dk_172 (dk_at dksX0_tithe_1 17 rfl rfl)
def dkwX0_titheAgain_3 : List UInt8 := [21, 4, 172]
abbrev dktX0_titheAgain_3 : List UInt8 := dkwX0_titheAgain_3 ++ []
def dkwX0_titheAgain_2 : List UInt8 := [28, 162, 0, 23, 132, 3, 1, 29, 16, 10, 160, 0, 8, 3, 62, 132, 4, 1, 132, 5, 1, 167, 255, 233]
abbrev dktX0_titheAgain_2 : List UInt8 := dkwX0_titheAgain_2 ++ dktX0_titheAgain_3
def dkwX0_titheAgain_1 : List UInt8 := [42, 180, 0, 22, 180, 0, 101, 27, 50, 180, 0, 130, 16, 10, 112, 62, 3, 54, 4, 3, 54, 5, 21, 5]
abbrev dktX0_titheAgain_1 : List UInt8 := dkwX0_titheAgain_1 ++ dktX0_titheAgain_2
def dkwX0_titheAgain_0 : List UInt8 := [42, 27, 182, 0, 124, 154, 0, 5, 2, 172, 28, 4, 17, 3, 231, 184, 0, 82, 154, 0, 6, 16, 254, 172]
abbrev dktX0_titheAgain_0 : List UInt8 := dkwX0_titheAgain_0 ++ dktX0_titheAgain_1
theorem dksX0_titheAgain_0 : cX0_titheAgain.data.toList.drop 0 = dktX0_titheAgain_0 := by decide +kernel
theorem dksX0_titheAgain_1 : cX0_titheAgain.data.toList.drop 24 = dktX0_titheAgain_1 := dk_seg dksX0_titheAgain_0 24 rfl rfl
theorem dksX0_titheAgain_2 : cX0_titheAgain.data.toList.drop 48 = dktX0_titheAgain_2 := dk_seg dksX0_titheAgain_1 24 rfl rfl
theorem dksX0_titheAgain_3 : cX0_titheAgain.data.toList.drop 72 = dktX0_titheAgain_3 := dk_seg dksX0_titheAgain_2 24 rfl rfl
theorem dX0_titheAgain_0 : decode cX0_titheAgain 0 = .ok (.aload_n 0, 1) := dk_42 (dk_at dksX0_titheAgain_0 0 rfl rfl)
theorem dX0_titheAgain_1 : decode cX0_titheAgain 1 = .ok (.iload_n 1, 1) := dk_27 (dk_at dksX0_titheAgain_0 1 rfl rfl)
theorem dX0_titheAgain_2 : decode cX0_titheAgain 2 = .ok (.invokevirtual 124, 3) := dk_182 0 124 (dk_at dksX0_titheAgain_0 2 rfl rfl)
theorem dX0_titheAgain_5 : decode cX0_titheAgain 5 = .ok (.ifCond .ne 5, 3) := dk_154 0 5 (dk_at dksX0_titheAgain_0 5 rfl rfl)
theorem dX0_titheAgain_8 : decode cX0_titheAgain 8 = .ok (.iconst (-1), 1) := dk_2 (dk_at dksX0_titheAgain_0 8 rfl rfl)
theorem dX0_titheAgain_9 : decode cX0_titheAgain 9 = .ok (.ireturn, 1) := dk_172 (dk_at dksX0_titheAgain_0 9 rfl rfl)
theorem dX0_titheAgain_10 : decode cX0_titheAgain 10 = .ok (.iload_n 2, 1) := dk_28 (dk_at dksX0_titheAgain_0 10 rfl rfl)
theorem dX0_titheAgain_11 : decode cX0_titheAgain 11 = .ok (.iconst 1, 1) := dk_4 (dk_at dksX0_titheAgain_0 11 rfl rfl)
theorem dX0_titheAgain_12 : decode cX0_titheAgain 12 = .ok (.sipush 999, 3) := dk_17 3 231 (dk_at dksX0_titheAgain_0 12 rfl rfl)
theorem dX0_titheAgain_15 : decode cX0_titheAgain 15 = .ok (.invokestatic 82, 3) := dk_184 0 82 (dk_at dksX0_titheAgain_0 15 rfl rfl)
theorem dX0_titheAgain_18 : decode cX0_titheAgain 18 = .ok (.ifCond .ne 6, 3) := dk_154 0 6 (dk_at dksX0_titheAgain_0 18 rfl rfl)
theorem dX0_titheAgain_21 : decode cX0_titheAgain 21 = .ok (.bipush (-2), 2) := dk_16 254 (dk_at dksX0_titheAgain_0 21 rfl rfl)
theorem dX0_titheAgain_23 : decode cX0_titheAgain 23 = .ok (.ireturn, 1) := dk_172 (dk_at dksX0_titheAgain_0 23 rfl rfl)
theorem dX0_titheAgain_24 : decode cX0_titheAgain 24 = .ok (.aload_n 0, 1) := dk_42 (dk_at dksX0_titheAgain_1 0 rfl rfl)
theorem dX0_titheAgain_25 : decode cX0_titheAgain 25 = .ok (.getfield 22, 3) := dk_180 0 22 (dk_at dksX0_titheAgain_1 1 rfl rfl)
theorem dX0_titheAgain_28 : decode cX0_titheAgain 28 = .ok (.getfield 101, 3) := dk_180 0 101 (dk_at dksX0_titheAgain_1 4 rfl rfl)
theorem dX0_titheAgain_31 : decode cX0_titheAgain 31 = .ok (.iload_n 1, 1) := dk_27 (dk_at dksX0_titheAgain_1 7 rfl rfl)
theorem dX0_titheAgain_32 : decode cX0_titheAgain 32 = .ok (.aaload, 1) := dk_50 (dk_at dksX0_titheAgain_1 8 rfl rfl)
theorem dX0_titheAgain_33 : decode cX0_titheAgain 33 = .ok (.getfield 130, 3) := dk_180 0 130 (dk_at dksX0_titheAgain_1 9 rfl rfl)
theorem dX0_titheAgain_36 : decode cX0_titheAgain 36 = .ok (.bipush 10, 2) := dk_16 10 (dk_at dksX0_titheAgain_1 12 rfl rfl)
theorem dX0_titheAgain_38 : decode cX0_titheAgain 38 = .ok (.irem, 1) := dk_112 (dk_at dksX0_titheAgain_1 14 rfl rfl)
theorem dX0_titheAgain_39 : decode cX0_titheAgain 39 = .ok (.istore_n 3, 1) := dk_62 (dk_at dksX0_titheAgain_1 15 rfl rfl)
theorem dX0_titheAgain_40 : decode cX0_titheAgain 40 = .ok (.iconst 0, 1) := dk_3 (dk_at dksX0_titheAgain_1 16 rfl rfl)
theorem dX0_titheAgain_41 : decode cX0_titheAgain 41 = .ok (.istore 4, 2) := dk_54 4 (dk_at dksX0_titheAgain_1 17 rfl rfl)
theorem dX0_titheAgain_43 : decode cX0_titheAgain 43 = .ok (.iconst 0, 1) := dk_3 (dk_at dksX0_titheAgain_1 19 rfl rfl)
theorem dX0_titheAgain_44 : decode cX0_titheAgain 44 = .ok (.istore 5, 2) := dk_54 5 (dk_at dksX0_titheAgain_1 20 rfl rfl)
theorem dX0_titheAgain_46 : decode cX0_titheAgain 46 = .ok (.iload 5, 2) := dk_21 5 (dk_at dksX0_titheAgain_1 22 rfl rfl)
theorem dX0_titheAgain_48 : decode cX0_titheAgain 48 = .ok (.iload_n 2, 1) := dk_28 (dk_at dksX0_titheAgain_2 0 rfl rfl)
theorem dX0_titheAgain_49 : decode cX0_titheAgain 49 = .ok (.if_icmp .ge 23, 3) := dk_162 0 23 (dk_at dksX0_titheAgain_2 1 rfl rfl)
theorem dX0_titheAgain_52 : decode cX0_titheAgain 52 = .ok (.iinc 3 1, 3) := dk_132 3 1 (dk_at dksX0_titheAgain_2 4 rfl rfl)
theorem dX0_titheAgain_55 : decode cX0_titheAgain 55 = .ok (.iload_n 3, 1) := dk_29 (dk_at dksX0_titheAgain_2 7 rfl rfl)
theorem dX0_titheAgain_56 : decode cX0_titheAgain 56 = .ok (.bipush 10, 2) := dk_16 10 (dk_at dksX0_titheAgain_2 8 rfl rfl)
theorem dX0_titheAgain_58 : decode cX0_titheAgain 58 = .ok (.if_icmp .ne 8, 3) := dk_160 0 8 (dk_at dksX0_titheAgain_2 10 rfl rfl)
theorem dX0_titheAgain_61 : decode cX0_titheAgain 61 = .ok (.iconst 0, 1) := dk_3 (dk_at dksX0_titheAgain_2 13 rfl rfl)
theorem dX0_titheAgain_62 : decode cX0_titheAgain 62 = .ok (.istore_n 3, 1) := dk_62 (dk_at dksX0_titheAgain_2 14 rfl rfl)
theorem dX0_titheAgain_63 : decode cX0_titheAgain 63 = .ok (.iinc 4 1, 3) := dk_132 4 1 (dk_at dksX0_titheAgain_2 15 rfl rfl)
theorem dX0_titheAgain_66 : decode cX0_titheAgain 66 = .ok (.iinc 5 1, 3) := dk_132 5 1 (dk_at dksX0_titheAgain_2 18 rfl rfl)
theorem dX0_titheAgain_69 : decode cX0_titheAgain 69 = .ok (.goto (-23), 3) := dk_167 255 233 (dk_at dksX0_titheAgain_2 21 rfl rfl)
theorem dX0_titheAgain_72 : decode cX0_titheAgain 72 = .ok (.iload 4, 2) := dk_21 4 (dk_at dksX0_titheAgain_3 0 rfl rfl)
theorem dX0_titheAgain_74 : decode cX0_titheAgain 74 = .ok (.ireturn, 1) := dk_172 (dk_at dksX0_titheAgain_3 2 rfl rfl)
def dkwX0_lasts_2 : List UInt8 := [182, 1, 24, 62, 132, 2, 1, 167, 255, 224, 28, 16, 60, 164, 0, 8, 16, 252, 167, 0, 4, 28, 172]
abbrev dktX0_lasts_2 : List UInt8 := dkwX0_lasts_2 ++ []
def dkwX0_lasts_1 : List UInt8 := [180, 0, 29, 180, 0, 226, 27, 50, 180, 0, 238, 158, 0, 23, 28, 16, 60, 163, 0, 17, 42, 180, 0, 29]
abbrev dktX0_lasts_1 : List UInt8 := dkwX0_lasts_1 ++ dktX0_lasts_2
def dkwX0_lasts_0 : List UInt8 := [27, 184, 0, 89, 154, 0, 5, 2, 172, 42, 180, 0, 29, 42, 180, 0, 22, 182, 0, 59, 3, 61, 42]
abbrev dktX0_lasts_0 : List UInt8 := dkwX0_lasts_0 ++ dktX0_lasts_1
theorem dksX0_lasts_0 : cX0_lasts.data.toList.drop 0 = dktX0_lasts_0 := by decide +kernel
theorem dksX0_lasts_1 : cX0_lasts.data.toList.drop 23 = dktX0_lasts_1 := dk_seg dksX0_lasts_0 23 rfl rfl
theorem dksX0_lasts_2 : cX0_lasts.data.toList.drop 47 = dktX0_lasts_2 := dk_seg dksX0_lasts_1 24 rfl rfl
theorem dX0_lasts_0 : decode cX0_lasts 0 = .ok (.iload_n 1, 1) := dk_27 (dk_at dksX0_lasts_0 0 rfl rfl)
theorem dX0_lasts_1 : decode cX0_lasts 1 = .ok (.invokestatic 89, 3) := dk_184 0 89 (dk_at dksX0_lasts_0 1 rfl rfl)
theorem dX0_lasts_4 : decode cX0_lasts 4 = .ok (.ifCond .ne 5, 3) := dk_154 0 5 (dk_at dksX0_lasts_0 4 rfl rfl)
theorem dX0_lasts_7 : decode cX0_lasts 7 = .ok (.iconst (-1), 1) := dk_2 (dk_at dksX0_lasts_0 7 rfl rfl)
theorem dX0_lasts_8 : decode cX0_lasts 8 = .ok (.ireturn, 1) := dk_172 (dk_at dksX0_lasts_0 8 rfl rfl)
theorem dX0_lasts_9 : decode cX0_lasts 9 = .ok (.aload_n 0, 1) := dk_42 (dk_at dksX0_lasts_0 9 rfl rfl)
theorem dX0_lasts_10 : decode cX0_lasts 10 = .ok (.getfield 29, 3) := dk_180 0 29 (dk_at dksX0_lasts_0 10 rfl rfl)
theorem dX0_lasts_13 : decode cX0_lasts 13 = .ok (.aload_n 0, 1) := dk_42 (dk_at dksX0_lasts_0 13 rfl rfl)
theorem dX0_lasts_14 : decode cX0_lasts 14 = .ok (.getfield 22, 3) := dk_180 0 22 (dk_at dksX0_lasts_0 14 rfl rfl)
theorem dX0_lasts_17 : decode cX0_lasts 17 = .ok (.invokevirtual 59, 3) := dk_182 0 59 (dk_at dksX0_lasts_0 17 rfl rfl)
theorem dX0_lasts_20 : decode cX0_lasts 20 = .ok (.iconst 0, 1) := dk_3 (dk_at dksX0_lasts_0 20 rfl rfl)
theorem dX0_lasts_21 : decode cX0_lasts 21 = .ok (.istore_n 2, 1) := dk_61 (dk_at dksX0_lasts_0 21 rfl rfl)
theorem dX0_lasts_22 : decode cX0_lasts 22 = .ok (.aload_n 0, 1) := dk_42 (dk_at dksX0_lasts_0 22 rfl rfl)
theorem dX0_lasts_23 : decode cX0_lasts 23 = .ok (.getfield 29, 3) := dk_180 0 29 (dk_at dksX0_lasts_1 0 rfl rfl)
theorem dX0_lasts_26 : decode cX0_lasts 26 = .ok (.getfield 226, 3) := dk_180 0 226 (dk_at dksX0_lasts_1 3 rfl rfl)
theorem dX0_lasts_29 : decode cX0_lasts 29 = .ok (.iload_n 1, 1) := dk_27 (dk_at dksX0_lasts_1 6 rfl rfl)
theorem dX0_lasts_30 : decode cX0_lasts 30 = .ok (.aaload, 1) := dk_50 (dk_at dksX0_lasts_1 7 rfl rfl)
theorem dX0_lasts_31 : decode cX0_lasts 31 = .ok (.getfield 238, 3) := dk_180 0 238 (dk_at dksX0_lasts_1 8 rfl rfl)
theorem dX0_lasts_34 : decode cX0_lasts 34 = .ok (.ifCond .le 23, 3) := dk_158 0 23 (dk_at dksX0_lasts_1 11 rfl rfl)
theorem dX0_lasts_37 : decode cX0_lasts 37 = .ok (.iload_n 2, 1) := dk_28 (dk_at dksX0_lasts_1 14 rfl rfl)
theorem dX0_lasts_38 : decode cX0_lasts 38 = .ok (.bipush 60, 2) := dk_16 60 (dk_at dksX0_lasts_1 15 rfl rfl)
theorem dX0_lasts_40 : decode cX0_lasts 40 = .ok (.if_icmp .gt 17, 3) := dk_163 0 17 (dk_at dksX0_lasts_1 17 rfl rfl)
theorem dX0_lasts_43 : decode cX0_lasts 43 = .ok (.aload_n 0, 1) := dk_42 (dk_at dksX0_lasts_1 20 rfl rfl)
theorem dX0_lasts_44 : decode cX0_lasts 44 = .ok (.getfield 29, 3) := dk_180 0 29 (dk_at dksX0_lasts_1 21 rfl rfl)
theorem dX0_lasts_47 : decode cX0_lasts 47 = .ok (.invokevirtual 280, 3) := dk_182 1 24 (dk_at dksX0_lasts_2 0 rfl rfl)
theorem dX0_lasts_50 : decode cX0_lasts 50 = .ok (.istore_n 3, 1) := dk_62 (dk_at dksX0_lasts_2 3 rfl rfl)
theorem dX0_lasts_51 : decode cX0_lasts 51 = .ok (.iinc 2 1, 3) := dk_132 2 1 (dk_at dksX0_lasts_2 4 rfl rfl)
theorem dX0_lasts_54 : decode cX0_lasts 54 = .ok (.goto (-32), 3) := dk_167 255 224 (dk_at dksX0_lasts_2 7 rfl rfl)
theorem dX0_lasts_57 : decode cX0_lasts 57 = .ok (.iload_n 2, 1) := dk_28 (dk_at dksX0_lasts_2 10 rfl rfl)
theorem dX0_lasts_58 : decode cX0_lasts 58 = .ok (.bipush 60, 2) := dk_16 60 (dk_at dksX0_lasts_2 11 rfl rfl)
theorem dX0_lasts_60 : decode cX0_lasts 60 = .ok (.if_icmp .le 8, 3) := dk_164 0 8 (dk_at dksX0_lasts_2 13 rfl rfl)
theorem dX0_lasts_63 : decode cX0_lasts 63 = .ok (.bipush (-4), 2) := dk_16 252 (dk_at dksX0_lasts_2 16 rfl rfl)
theorem dX0_lasts_65 : decode cX0_lasts 65 = .ok (.goto 4, 3) := dk_167 0 4 (dk_at dksX0_lasts_2 18 rfl rfl)
theorem dX0_lasts_68 : decode cX0_lasts 68 = .ok (.iload_n 2, 1) := dk_28 (dk_at dksX0_lasts_2 21 rfl rfl)
theorem dX0_lasts_69 : decode cX0_lasts 69 = .ok (.ireturn, 1) := dk_172 (dk_at dksX0_lasts_2 22 rfl rfl)
def dkwX0_bestCat_3 : List UInt8 := [167, 0, 14, 3, 42, 2, 182, 1, 177, 29, 100, 184, 1, 185, 172]
abbrev dktX0_bestCat_3 : List UInt8 := dkwX0_bestCat_3 ++ []
def dkwX0_bestCat_2 : List UInt8 := [167, 0, 4, 28, 61, 29, 21, 5, 184, 1, 180, 62, 132, 4, 1, 167, 255, 218, 27, 154, 0, 7, 28]
abbrev dktX0_bestCat_2 : List UInt8 := dkwX0_bestCat_2 ++ dktX0_bestCat_3
def dkwX0_bestCat_1 : List UInt8 := [21, 4, 16, 7, 162, 0, 37, 42, 21, 4, 182, 1, 177, 54, 5, 21, 5, 29, 162, 0, 8, 21, 4]
abbrev dktX0_bestCat_1 : List UInt8 := dkwX0_bestCat_1 ++ dktX0_bestCat_2
def dkwX0_bestCat_0 : List UInt8 := [27, 3, 4, 184, 0, 82, 154, 0, 6, 16, 254, 172, 3, 61, 42, 3, 182, 1, 177, 62, 4, 54, 4]
abbrev dktX0_bestCat_0 : List UInt8 := dkwX0_bestCat_0 ++ dktX0_bestCat_1
theorem dksX0_bestCat_0 : cX0_bestCat.data.toList.drop 0 = dktX0_bestCat_0 := by decide +kernel
theorem dksX0_bestCat_1 : cX0_bestCat.data.toList.drop 23 = dktX0_bestCat_1 := dk_seg dksX0_bestCat_0 23 rfl rfl
theorem dksX0_bestCat_2 : cX0_bestCat.data.toList.drop 46 = dktX0_bestCat_2 := dk_seg dksX0_bestCat_1 23 rfl rfl
theorem dksX0_bestCat_3 : cX0_bestCat.data.toList.drop 69 = dktX0_bestCat_3 := dk_seg dksX0_bestCat_2 23 rfl rfl
theorem dX0_bestCat_0 : decode cX0_bestCat 0 = .ok (.iload_n 1, 1) := dk_27 (dk_at dksX0_bestCat_0 0 rfl rfl)
theorem dX0_bestCat_1 : decode cX0_bestCat 1 = .ok (.iconst 0, 1) := dk_3 (dk_at dksX0_bestCat_0 1 rfl rfl)
theorem dX0_bestCat_2 : decode cX0_bestCat 2 = .ok (.iconst 1, 1) := dk_4 (dk_at dksX0_bestCat_0 2 rfl rfl)
theorem dX0_bestCat_3 : decode cX0_bestCat 3 = .ok (.invokestatic 82, 3) := dk_184 0 82 (dk_at dksX0_bestCat_0 3 rfl rfl)
theorem dX0_bestCat_6 : decode cX0_bestCat 6 = .ok (.ifCond .ne 6, 3) := dk_154 0 6 (dk_at dksX0_bestCat_0 6 rfl rfl)
theorem dX0_bestCat_9 : decode cX0_bestCat 9 = .ok (.bipush (-2), 2) := dk_16 254 (dk_at dksX0_bestCat_0 9 rfl rfl)
theorem dX0_bestCat_11 : decode cX0_bestCat 11 = .ok (.ireturn, 1) := dk_172 (dk_at dksX0_bestCat_0 11 rfl rfl)
theorem dX0_bestCat_12 : decode cX0_bestCat 12 = .ok (.iconst 0, 1) := dk_3 (dk_at dksX0_bestCat_0 12 rfl rfl)
theorem dX0_bestCat_13 : decode cX0_bestCat 13 = .ok (.istore_n 2, 1) := dk_61 (dk_at dksX0_bestCat_0 13 rfl rfl)
theorem dX0_bestCat_14 : decode cX0_bestCat 14 = .ok (.aload_n 0, 1) := dk_42 (dk_at dksX0_bestCat_0 14 rfl rfl)
theorem dX0_bestCat_15 : decode cX0_bestCat 15 = .ok (.iconst 0, 1) := dk_3 (dk_at dksX0_bestCat_0 15 rfl rfl)
theorem dX0_bestCat_16 : decode cX0_bestCat 16 = .ok (.invokevirtual 433, 3) := dk_182 1 177 (dk_at dksX0_bestCat_0 16 rfl rfl)
theorem dX0_bestCat_19 : decode cX0_bestCat 19 = .ok (.istore_n 3, 1) := dk_62 (dk_at dksX0_bestCat_0 19 rfl rfl)
theorem dX0_bestCat_20 : decode cX0_bestCat 20 = .ok (.iconst 1, 1) := dk_4 (dk_at dksX0_bestCat_0 20 rfl rfl)
theorem dX0_bestCat_21 : decode cX0_bestCat 21 = .ok (.istore 4, 2) := dk_54 4 (dk_at dksX0_bestCat_0 21 rfl rfl)
theorem dX0_bestCat_23 : decode cX0_bestCat 23 = .ok (.iload 4, 2) := dk_21 4 (dk_at dksX0_bestCat_1 0 rfl rfl)
theorem dX0_bestCat_25 : decode cX0_bestCat 25 = .ok (.bipush 7, 2) := dk_16 7 (dk_at dksX0_bestCat_1 2 rfl rfl)
theorem dX0_bestCat_27 : decode cX0_bestCat 27 = .ok (.if_icmp .ge 37, 3) := dk_162 0 37 (dk_at dksX0_bestCat_1 4 rfl rfl)
theorem dX0_bestCat_30 : decode cX0_bestCat 30 = .ok (.aload_n 0, 1) := dk_42 (dk_at dksX0_bestCat_1 7 rfl rfl)
theorem dX0_bestCat_31 : decode cX0_bestCat 31 = .ok (.iload 4, 2) := dk_21 4 (dk_at dksX0_bestCat_1 8 rfl rfl)
theorem dX0_bestCat_33 : decode cX0_bestCat 33 = .ok (.invokevirtual 433, 3) := dk_182 1 177 (dk_at dksX0_bestCat_1 10 rfl rfl)
theorem dX0_bestCat_36 : decode cX0_bestCat 36 = .ok (.istore 5, 2) := dk_54 5 (dk_at dksX0_bestCat_1 13 rfl rfl)
theorem dX0_bestCat_38 : decode cX0_bestCat 38 = .ok (.iload 5, 2) := dk_21 5 (dk_at dksX0_bestCat_1 15 rfl rfl)
theorem dX0_bestCat_40 : decode cX0_bestCat 40 = .ok (.iload_n 3, 1) := dk_29 (dk_at dksX0_bestCat_1 17 rfl rfl)
theorem dX0_bestCat_41 : decode cX0_bestCat 41 = .ok (.if_icmp .ge 8, 3) := dk_162 0 8 (dk_at dksX0_bestCat_1 18 rfl rfl)
theorem dX0_bestCat_44 : decode cX0_bestCat 44 = .ok (.iload 4, 2) := dk_21 4 (dk_at dksX0_bestCat_1 21 rfl rfl)
theorem dX0_bestCat_46 : decode cX0_bestCat 46 = .ok (.goto 4, 3) := dk_167 0 4 (dk_at dksX0_bestCat_2 0 rfl rfl)
theorem dX0_bestCat_49 : decode cX0_bestCat 49 = .ok (.iload_n 2, 1) := dk_28 (dk_at dksX0_bestCat_2 3 rfl rfl)
theorem dX0_bestCat_50 : decode cX0_bestCat 50 = .ok (.istore_n 2, 1) := dk_61 (dk_at dksX0_bestCat_2 4 rfl rfl)
theorem dX0_bestCat_51 : decode cX0_bestCat 51 = .ok (.iload_n 3, 1) := dk_29 (dk_at dksX0_bestCat_2 5 rfl rfl)
theorem dX0_bestCat_52 : decode cX0_bestCat 52 = .ok (.iload 5, 2) := dk_21 5 (dk_at dksX0_bestCat_2 6 rfl rfl)
theorem dX0_bestCat_54 : decode cX0_bestCat 54 = .ok (.invokestatic 436, 3) := dk_184 1 180 (dk_at dksX0_bestCat_2 8 rfl rfl)
theorem dX0_bestCat_57 : decode cX0_bestCat 57 = .ok (.istore_n 3, 1) := dk_62 (dk_at dksX0_bestCat_2 11 rfl rfl)
theorem dX0_bestCat_58 : decode cX0_bestCat 58 = .ok (.iinc 4 1, 3) := dk_132 4 1 (dk_at dksX0_bestCat_2 12 rfl rfl)
theorem dX0_bestCat_61 : decode cX0_bestCat 61 = .ok (.goto (-38), 3) := dk_167 255 218 (dk_at dksX0_bestCat_2 15 rfl rfl)
theorem dX0_bestCat_64 : decode cX0_bestCat 64 = .ok (.iload_n 1, 1) := dk_27 (dk_at dksX0_bestCat_2 18 rfl rfl)
theorem dX0_bestCat_65 : decode cX0_bestCat 65 = .ok (.ifCond .ne 7, 3) := dk_154 0 7 (dk_at dksX0_bestCat_2 19 rfl rfl)
theorem dX0_bestCat_68 : decode cX0_bestCat 68 = .ok (.iload_n 2, 1) := dk_28 (dk_at dksX0_bestCat_2 22 rfl rfl)
theorem dX0_bestCat_69 : decode cX0_bestCat 69 = .ok (.goto 14, 3) := dk_167 0 14 (dk_at dksX0_bestCat_3 0 rfl rfl)
theorem dX0_bestCat_72 : decode cX0_bestCat 72 = .ok (.iconst 0, 1) := dk_3 (dk_at dksX0_bestCat_3 3 rfl rfl)
theorem dX0_bestCat_73 : decode cX0_bestCat 73 = .ok (.aload_n 0, 1) := dk_42 (dk_at dksX0_bestCat_3 4 rfl rfl)
theorem dX0_bestCat_74 : decode cX0_bestCat 74 = .ok (.iconst (-1), 1) := dk_2 (dk_at dksX0_bestCat_3 5 rfl rfl)
theorem dX0_bestCat_75 : decode cX0_bestCat 75 = .ok (.invokevirtual 433, 3) := dk_182 1 177 (dk_at dksX0_bestCat_3 6 rfl rfl)
theorem dX0_bestCat_78 : decode cX0_bestCat 78 = .ok (.iload_n 3, 1) := dk_29 (dk_at dksX0_bestCat_3 9 rfl rfl)
theorem dX0_bestCat_79 : decode cX0_bestCat 79 = .ok (.isub, 1) := dk_100 (dk_at dksX0_bestCat_3 10 rfl rfl)
theorem dX0_bestCat_80 : decode cX0_bestCat 80 = .ok (.invokestatic 441, 3) := dk_184 1 185 (dk_at dksX0_bestCat_3 11 rfl rfl)
theorem dX0_bestCat_83 : decode cX0_bestCat 83 = .ok (.ireturn, 1) := dk_172 (dk_at dksX0_bestCat_3 14 rfl rfl)
def dkwX0_eatenBy_2 : List UInt8 := [42, 180, 0, 22, 180, 1, 174, 100, 172]
abbrev dktX0_eatenBy_2 : List UInt8 := dkwX0_eatenBy_2 ++ []
def dkwX0_eatenBy_1 : List UInt8 := [162, 0, 17, 42, 180, 0, 29, 182, 1, 24, 62, 132, 2, 1, 167, 255, 239, 42, 180, 0, 29, 180, 1, 174]
abbrev dktX0_eatenBy_1 : List UInt8 := dkwX0_eatenBy_1 ++ dktX0_eatenBy_2
def dkwX0_eatenBy_0 : List UInt8 := [42, 180, 0, 29, 42, 180, 0, 22, 182, 0, 59, 42, 180, 0, 29, 27, 181, 1, 18, 3, 61, 28, 16, 10]
abbrev dktX0_eatenBy_0 : List UInt8 := dkwX0_eatenBy_0 ++ dktX0_eatenBy_1
theorem dksX0_eatenBy_0 : cX0_eatenBy.data.toList.drop 0 = dktX0_eatenBy_0 := by decide +kernel
theorem dksX0_eatenBy_1 : cX0_eatenBy.data.toList.drop 24 = dktX0_eatenBy_1 := dk_seg dksX0_eatenBy_0 24 rfl rfl
theorem dksX0_eatenBy_2 : cX0_eatenBy.data.toList.drop 48 = dktX0_eatenBy_2 := dk_seg dksX0_eatenBy_1 24 rfl rfl
theorem dX0_eatenBy_0 : decode cX0_eatenBy 0 = .ok (.aload_n 0, 1) := dk_42 (dk_at dksX0_eatenBy_0 0 rfl rfl)
theorem dX0_eatenBy_1 : decode cX0_eatenBy 1 = .ok (.getfield 29, 3) := dk_180 0 29 (dk_at dksX0_eatenBy_0 1 rfl rfl)
theorem dX0_eatenBy_4 : decode cX0_eatenBy 4 = .ok (.aload_n 0, 1) := dk_42 (dk_at dksX0_eatenBy_0 4 rfl rfl)
theorem dX0_eatenBy_5 : decode cX0_eatenBy 5 = .ok (.getfield 22, 3) := dk_180 0 22 (dk_at dksX0_eatenBy_0 5 rfl rfl)
theorem dX0_eatenBy_8 : decode cX0_eatenBy 8 = .ok (.invokevirtual 59, 3) := dk_182 0 59 (dk_at dksX0_eatenBy_0 8 rfl rfl)
theorem dX0_eatenBy_11 : decode cX0_eatenBy 11 = .ok (.aload_n 0, 1) := dk_42 (dk_at dksX0_eatenBy_0 11 rfl rfl)
theorem dX0_eatenBy_12 : decode cX0_eatenBy 12 = .ok (.getfield 29, 3) := dk_180 0 29 (dk_at dksX0_eatenBy_0 12 rfl rfl)
theorem dX0_eatenBy_15 : decode cX0_eatenBy 15 = .ok (.iload_n 1, 1) := dk_27 (dk_at dksX0_eatenBy_0 15 rfl rfl)
theorem dX0_eatenBy_16 : decode cX0_eatenBy 16 = .ok (.putfield 274, 3) := dk_181 1 18 (dk_at dksX0_eatenBy_0 16 rfl rfl)
theorem dX0_eatenBy_19 : decode cX0_eatenBy 19 = .ok (.iconst 0, 1) := dk_3 (dk_at dksX0_eatenBy_0 19 rfl rfl)
theorem dX0_eatenBy_20 : decode cX0_eatenBy 20 = .ok (.istore_n 2, 1) := dk_61 (dk_at dksX0_eatenBy_0 20 rfl rfl)
theorem dX0_eatenBy_21 : decode cX0_eatenBy 21 = .ok (.iload_n 2, 1) := dk_28 (dk_at dksX0_eatenBy_0 21 rfl rfl)
theorem dX0_eatenBy_22 : decode cX0_eatenBy 22 = .ok (.bipush 10, 2) := dk_16 10 (dk_at dksX0_eatenBy_0 22 rfl rfl)
theorem dX0_eatenBy_24 : decode cX0_eatenBy 24 = .ok (.if_icmp .ge 17, 3) := dk_162 0 17 (dk_at dksX0_eatenBy_1 0 rfl rfl)
theorem dX0_eatenBy_27 : decode cX0_eatenBy 27 = .ok (.aload_n 0, 1) := dk_42 (dk_at dksX0_eatenBy_1 3 rfl rfl)
theorem dX0_eatenBy_28 : decode cX0_eatenBy 28 = .ok (.getfield 29, 3) := dk_180 0 29 (dk_at dksX0_eatenBy_1 4 rfl rfl)
theorem dX0_eatenBy_31 : decode cX0_eatenBy 31 = .ok (.invokevirtual 280, 3) := dk_182 1 24 (dk_at dksX0_eatenBy_1 7 rfl rfl)
theorem dX0_eatenBy_34 : decode cX0_eatenBy 34 = .ok (.istore_n 3, 1) := dk_62 (dk_at dksX0_eatenBy_1 10 rfl rfl)
theorem dX0_eatenBy_35 : decode cX0_eatenBy 35 = .ok (.iinc 2 1, 3) := dk_132 2 1 (dk_at dksX0_eatenBy_1 11 rfl rfl)
theorem dX0_eatenBy_38 : decode cX0_eatenBy 38 = .ok (.goto (-17), 3) := dk_167 255 239 (dk_at dksX0_eatenBy_1 14 rfl rfl)
theorem dX0_eatenBy_41 : decode cX0_eatenBy 41 = .ok (.aload_n 0, 1) := dk_42 (dk_at dksX0_eatenBy_1 17 rfl rfl)
theorem dX0_eatenBy_42 : decode cX0_eatenBy 42 = .ok (.getfield 29, 3) := dk_180 0 29 (dk_at dksX0_eatenBy_1 18 rfl rfl)
theorem dX0_eatenBy_45 : decode cX0_eatenBy 45 = .ok (.getfield 430, 3) := dk_180 1 174 (dk_at dksX0_eatenBy_1 21 rfl rfl)
theorem dX0_eatenBy_48 : decode cX0_eatenBy 48 = .ok (.aload_n 0, 1) := dk_42 (dk_at dksX0_eatenBy_2 0 rfl rfl)
theorem dX0_eatenBy_49 : decode cX0_eatenBy 49 = .ok (.getfield 22, 3) := dk_180 0 22 (dk_at dksX0_eatenBy_2 1 rfl rfl)
theorem dX0_eatenBy_52 : decode cX0_eatenBy 52 = .ok (.getfield 430, 3) := dk_180 1 174 (dk_at dksX0_eatenBy_2 4 rfl rfl)
theorem dX0_eatenBy_55 : decode cX0_eatenBy 55 = .ok (.isub, 1) := dk_100 (dk_at dksX0_eatenBy_2 7 rfl rfl)
theorem dX0_eatenBy_56 : decode cX0_eatenBy 56 = .ok (.ireturn, 1) := dk_172 (dk_at dksX0_eatenBy_2 8 rfl rfl)
def dkwX0_ranked_1 : List UInt8 := [132, 2, 1, 167, 255, 231, 2, 172]
abbrev dktX0_ranked_1 : List UInt8 := dkwX0_ranked_1 ++ []
def dkwX0_ranked_0 : List UInt8 := [3, 61, 28, 42, 180, 0, 22, 180, 0, 79, 162, 0, 20, 42, 28, 182, 1, 158, 27, 160, 0, 5, 28, 172]
abbrev dktX0_ranked_0 : List UInt8 := dkwX0_ranked_0 ++ dktX0_ranked_1
theorem dksX0_ranked_0 : cX0_ranked.data.toList.drop 0 = dktX0_ranked_0 := by decide +kernel
theorem dksX0_ranked_1 : cX0_ranked.data.toList.drop 24 = dktX0_ranked_1 := dk_seg dksX0_ranked_0 24 rfl rfl
theorem dX0_ranked_0 : decode cX0_ranked 0 = .ok (.iconst 0, 1) := dk_3 (dk_at dksX0_ranked_0 0 rfl rfl)
theorem dX0_ranked_1 : decode cX0_ranked 1 = .ok (.istore_n 2, 1) := dk_61 (dk_at dksX0_ranked_0 1 rfl rfl)
theorem dX0_ranked_2 : decode cX0_ranked 2 = .ok (.iload_n 2, 1) := dk_28 (dk_at dksX0_ranked_0 2 rfl rfl)
theorem dX0_ranked_3 : decode cX0_ranked 3 = .ok (.aload_n 0, 1) := dk_42 (dk_at dksX0_ranked_0 3 rfl rfl)
theorem dX0_ranked_4 : decode cX0_ranked 4 = .ok (.getfield 22, 3) := dk_180 0 22 (dk_at dksX0_ranked_0 4 rfl rfl)
theorem dX0_ranked_7 : decode cX0_ranked 7 = .ok (.getfield 79, 3) := dk_180 0 79 (dk_at dksX0_ranked_0 7 rfl rfl)
theorem dX0_ranked_10 : decode cX0_ranked 10 = .ok (.if_icmp .ge 20, 3) := dk_162 0 20 (dk_at dksX0_ranked_0 10 rfl rfl)
theorem dX0_ranked_13 : decode cX0_ranked 13 = .ok (.aload_n 0, 1) := dk_42 (dk_at dksX0_ranked_0 13 rfl rfl)
theorem dX0_ranked_14 : decode cX0_ranked 14 = .ok (.iload_n 2, 1) := dk_28 (dk_at dksX0_ranked_0 14 rfl rfl)
theorem dX0_ranked_15 : decode cX0_ranked 15 = .ok (.invokevirtual 414, 3) := dk_182 1 158 (dk_at dksX0_ranked_0 15 rfl rfl)
theorem dX0_ranked_18 : decode cX0_ranked 18 = .ok (.iload_n 1, 1) := dk_27 (dk_at dksX0_ranked_0 18 rfl rfl)
theorem dX0_ranked_19 : decode cX0_ranked 19 = .ok (.if_icmp .ne 5, 3) := dk_160 0 5 (dk_at dksX0_ranked_0 19 rfl rfl)
theorem dX0_ranked_22 : decode cX0_ranked 22 = .ok (.iload_n 2, 1) := dk_28 (dk_at dksX0_ranked_0 22 rfl rfl)
theorem dX0_ranked_23 : decode cX0_ranked 23 = .ok (.ireturn, 1) := dk_172 (dk_at dksX0_ranked_0 23 rfl rfl)
theorem dX0_ranked_24 : decode cX0_ranked 24 = .ok (.iinc 2 1, 3) := dk_132 2 1 (dk_at dksX0_ranked_1 0 rfl rfl)
theorem dX0_ranked_27 : decode cX0_ranked 27 = .ok (.goto (-25), 3) := dk_167 255 231 (dk_at dksX0_ranked_1 3 rfl rfl)
theorem dX0_ranked_30 : decode cX0_ranked 30 = .ok (.iconst (-1), 1) := dk_2 (dk_at dksX0_ranked_1 6 rfl rfl)
theorem dX0_ranked_31 : decode cX0_ranked 31 = .ok (.ireturn, 1) := dk_172 (dk_at dksX0_ranked_1 7 rfl rfl)
def dkwX0_grain_3 : List UInt8 := [182, 1, 213, 172, 42, 180, 0, 22, 180, 1, 174, 172, 16, 254, 172]
abbrev dktX0_grain_3 : List UInt8 := dkwX0_grain_3 ++ []
def dkwX0_grain_2 : List UInt8 := [42, 182, 1, 204, 172, 42, 182, 1, 207, 172, 42, 182, 1, 210, 172, 42, 3, 182, 1, 213, 172, 42, 6]
abbrev dktX0_grain_2 : List UInt8 := dkwX0_grain_2 ++ dktX0_grain_3
def dkwX0_grain_1 : List UInt8 := [170, 0, 0, 0, 0, 0, 74, 0, 0, 0, 0, 0, 0, 0, 5, 0, 0, 0, 39, 0, 0, 0, 44, 0, 0, 0, 49, 0, 0, 0, 54, 0, 0, 0, 60, 0, 0, 0, 66]
abbrev dktX0_grain_1 : List UInt8 := dkwX0_grain_1 ++ dktX0_grain_2
def dkwX0_grain_0 : List UInt8 := [27]
abbrev dktX0_grain_0 : List UInt8 := dkwX0_grain_0 ++ dktX0_grain_1
theorem dksX0_grain_0 : cX0_grain.data.toList.drop 0 = dktX0_grain_0 := by decide +kernel
theorem dksX0_grain_1 : cX0_grain.data.toList.drop 1 = dktX0_grain_1 := dk_seg dksX0_grain_0 1 rfl rfl
theorem dksX0_grain_2 : cX0_grain.data.toList.drop 40 = dktX0_grain_2 := dk_seg dksX0_grain_1 39 rfl rfl
theorem dksX0_grain_3 : cX0_grain.data.toList.drop 63 = dktX0_grain_3 := dk_seg dksX0_grain_2 23 rfl rfl
theorem dX0_grain_0 : decode cX0_grain 0 = .ok (.iload_n 1, 1) := dk_27 (dk_at dksX0_grain_0 0 rfl rfl)
theorem dX0_grain_1 : decode cX0_grain 1 = .ok (.tableswitch 74 0 5 #[39, 44, 49, 54, 60, 66], 39) := by decide +kernel
theorem dX0_grain_40 : decode cX0_grain 40 = .ok (.aload_n 0, 1) := dk_42 (dk_at dksX0_grain_2 0 rfl rfl)
theorem dX0_grain_41 : decode cX0_grain 41 = .ok (.invokevirtual 460, 3) := dk_182 1 204 (dk_at dksX0_grain_2 1 rfl rfl)
theorem dX0_grain_44 : decode cX0_grain 44 = .ok (.ireturn, 1) := dk_172 (dk_at dksX0_grain_2 4 rfl rfl)
theorem dX0_grain_45 : decode cX0_grain 45 = .ok (.aload_n 0, 1) := dk_42 (dk_at dksX0_grain_2 5 rfl rfl)
theorem dX0_grain_46 : decode cX0_grain 46 = .ok (.invokevirtual 463, 3) := dk_182 1 207 (dk_at dksX0_grain_2 6 rfl rfl)
theorem dX0_grain_49 : decode cX0_grain 49 = .ok (.ireturn, 1) := dk_172 (dk_at dksX0_grain_2 9 rfl rfl)
theorem dX0_grain_50 : decode cX0_grain 50 = .ok (.aload_n 0, 1) := dk_42 (dk_at dksX0_grain_2 10 rfl rfl)
theorem dX0_grain_51 : decode cX0_grain 51 = .ok (.invokevirtual 466, 3) := dk_182 1 210 (dk_at dksX0_grain_2 11 rfl rfl)
theorem dX0_grain_54 : decode cX0_grain 54 = .ok (.ireturn, 1) := dk_172 (dk_at dksX0_grain_2 14 rfl rfl)
theorem dX0_grain_55 : decode cX0_grain 55 = .ok (.aload_n 0, 1) := dk_42 (dk_at dksX0_grain_2 15 rfl rfl)
theorem dX0_grain_56 : decode cX0_grain 56 = .ok (.iconst 0, 1) := dk_3 (dk_at dksX0_grain_2 16 rfl rfl)
theorem dX0_grain_57 : decode cX0_grain 57 = .ok (.invokevirtual 469, 3) := dk_182 1 213 (dk_at dksX0_grain_2 17 rfl rfl)
theorem dX0_grain_60 : decode cX0_grain 60 = .ok (.ireturn, 1) := dk_172 (dk_at dksX0_grain_2 20 rfl rfl)
theorem dX0_grain_61 : decode cX0_grain 61 = .ok (.aload_n 0, 1) := dk_42 (dk_at dksX0_grain_2 21 rfl rfl)
theorem dX0_grain_62 : decode cX0_grain 62 = .ok (.iconst 3, 1) := dk_6 (dk_at dksX0_grain_2 22 rfl rfl)
theorem dX0_grain_63 : decode cX0_grain 63 = .ok (.invokevirtual 469, 3) := dk_182 1 213 (dk_at dksX0_grain_3 0 rfl rfl)
theorem dX0_grain_66 : decode cX0_grain 66 = .ok (.ireturn, 1) := dk_172 (dk_at dksX0_grain_3 3 rfl rfl)
theorem dX0_grain_67 : decode cX0_grain 67 = .ok (.aload_n 0, 1) := dk_42 (dk_at dksX0_grain_3 4 rfl rfl)
theorem dX0_grain_68 : decode cX0_grain 68 = .ok (.getfield 22, 3) := dk_180 0 22 (dk_at dksX0_grain_3 5 rfl rfl)
theorem dX0_grain_71 : decode cX0_grain 71 = .ok (.getfield 430, 3) := dk_180 1 174 (dk_at dksX0_grain_3 8 rfl rfl)
theorem dX0_grain_74 : decode cX0_grain 74 = .ok (.ireturn, 1) := dk_172 (dk_at dksX0_grain_3 11 rfl rfl)
theorem dX0_grain_75 : decode cX0_grain 75 = .ok (.bipush (-2), 2) := dk_16 254 (dk_at dksX0_grain_3 12 rfl rfl)
theorem dX0_grain_77 : decode cX0_grain 77 = .ok (.ireturn, 1) := dk_172 (dk_at dksX0_grain_3 14 rfl rfl)
def dkwX0_cartedPints_2 : List UInt8 := [132, 2, 1, 167, 255, 211, 27, 172]
abbrev dktX0_cartedPints_2 : List UInt8 := dkwX0_cartedPints_2 ++ []
def dkwX0_cartedPints_1 : List UInt8 := [50, 180, 1, 152, 42, 180, 0, 22, 180, 0, 101, 28, 50, 180, 0, 184, 184, 1, 192, 104, 96, 60]
abbrev dktX0_cartedPints_1 : List UInt8 := dkwX0_cartedPints_1 ++ dktX0_cartedPints_2
def dkwX0_cartedPints_0 : List UInt8 := [3, 60, 3, 61, 28, 42, 180, 0, 22, 180, 0, 79, 162, 0, 40, 27, 42, 180, 0, 22, 180, 0, 101, 28]
abbrev dktX0_cartedPints_0 : List UInt8 := dkwX0_cartedPints_0 ++ dktX0_cartedPints_1
theorem dksX0_cartedPints_0 : cX0_cartedPints.data.toList.drop 0 = dktX0_cartedPints_0 := by decide +kernel
theorem dksX0_cartedPints_1 : cX0_cartedPints.data.toList.drop 24 = dktX0_cartedPints_1 := dk_seg dksX0_cartedPints_0 24 rfl rfl
theorem dksX0_cartedPints_2 : cX0_cartedPints.data.toList.drop 46 = dktX0_cartedPints_2 := dk_seg dksX0_cartedPints_1 22 rfl rfl
theorem dX0_cartedPints_0 : decode cX0_cartedPints 0 = .ok (.iconst 0, 1) := dk_3 (dk_at dksX0_cartedPints_0 0 rfl rfl)
theorem dX0_cartedPints_1 : decode cX0_cartedPints 1 = .ok (.istore_n 1, 1) := dk_60 (dk_at dksX0_cartedPints_0 1 rfl rfl)
theorem dX0_cartedPints_2 : decode cX0_cartedPints 2 = .ok (.iconst 0, 1) := dk_3 (dk_at dksX0_cartedPints_0 2 rfl rfl)
theorem dX0_cartedPints_3 : decode cX0_cartedPints 3 = .ok (.istore_n 2, 1) := dk_61 (dk_at dksX0_cartedPints_0 3 rfl rfl)
theorem dX0_cartedPints_4 : decode cX0_cartedPints 4 = .ok (.iload_n 2, 1) := dk_28 (dk_at dksX0_cartedPints_0 4 rfl rfl)
theorem dX0_cartedPints_5 : decode cX0_cartedPints 5 = .ok (.aload_n 0, 1) := dk_42 (dk_at dksX0_cartedPints_0 5 rfl rfl)
theorem dX0_cartedPints_6 : decode cX0_cartedPints 6 = .ok (.getfield 22, 3) := dk_180 0 22 (dk_at dksX0_cartedPints_0 6 rfl rfl)
theorem dX0_cartedPints_9 : decode cX0_cartedPints 9 = .ok (.getfield 79, 3) := dk_180 0 79 (dk_at dksX0_cartedPints_0 9 rfl rfl)
theorem dX0_cartedPints_12 : decode cX0_cartedPints 12 = .ok (.if_icmp .ge 40, 3) := dk_162 0 40 (dk_at dksX0_cartedPints_0 12 rfl rfl)
theorem dX0_cartedPints_15 : decode cX0_cartedPints 15 = .ok (.iload_n 1, 1) := dk_27 (dk_at dksX0_cartedPints_0 15 rfl rfl)
theorem dX0_cartedPints_16 : decode cX0_cartedPints 16 = .ok (.aload_n 0, 1) := dk_42 (dk_at dksX0_cartedPints_0 16 rfl rfl)
theorem dX0_cartedPints_17 : decode cX0_cartedPints 17 = .ok (.getfield 22, 3) := dk_180 0 22 (dk_at dksX0_cartedPints_0 17 rfl rfl)
theorem dX0_cartedPints_20 : decode cX0_cartedPints 20 = .ok (.getfield 101, 3) := dk_180 0 101 (dk_at dksX0_cartedPints_0 20 rfl rfl)
theorem dX0_cartedPints_23 : decode cX0_cartedPints 23 = .ok (.iload_n 2, 1) := dk_28 (dk_at dksX0_cartedPints_0 23 rfl rfl)
theorem dX0_cartedPints_24 : decode cX0_cartedPints 24 = .ok (.aaload, 1) := dk_50 (dk_at dksX0_cartedPints_1 0 rfl rfl)
theorem dX0_cartedPints_25 : decode cX0_cartedPints 25 = .ok (.getfield 408, 3) := dk_180 1 152 (dk_at dksX0_cartedPints_1 1 rfl rfl)
theorem dX0_cartedPints_28 : decode cX0_cartedPints 28 = .ok (.aload_n 0, 1) := dk_42 (dk_at dksX0_cartedPints_1 4 rfl rfl)
theorem dX0_cartedPints_29 : decode cX0_cartedPints 29 = .ok (.getfield 22, 3) := dk_180 0 22 (dk_at dksX0_cartedPints_1 5 rfl rfl)
theorem dX0_cartedPints_32 : decode cX0_cartedPints 32 = .ok (.getfield 101, 3) := dk_180 0 101 (dk_at dksX0_cartedPints_1 8 rfl rfl)
theorem dX0_cartedPints_35 : decode cX0_cartedPints 35 = .ok (.iload_n 2, 1) := dk_28 (dk_at dksX0_cartedPints_1 11 rfl rfl)
theorem dX0_cartedPints_36 : decode cX0_cartedPints 36 = .ok (.aaload, 1) := dk_50 (dk_at dksX0_cartedPints_1 12 rfl rfl)
theorem dX0_cartedPints_37 : decode cX0_cartedPints 37 = .ok (.getfield 184, 3) := dk_180 0 184 (dk_at dksX0_cartedPints_1 13 rfl rfl)
theorem dX0_cartedPints_40 : decode cX0_cartedPints 40 = .ok (.invokestatic 448, 3) := dk_184 1 192 (dk_at dksX0_cartedPints_1 16 rfl rfl)
theorem dX0_cartedPints_43 : decode cX0_cartedPints 43 = .ok (.imul, 1) := dk_104 (dk_at dksX0_cartedPints_1 19 rfl rfl)
theorem dX0_cartedPints_44 : decode cX0_cartedPints 44 = .ok (.iadd, 1) := dk_96 (dk_at dksX0_cartedPints_1 20 rfl rfl)
theorem dX0_cartedPints_45 : decode cX0_cartedPints 45 = .ok (.istore_n 1, 1) := dk_60 (dk_at dksX0_cartedPints_1 21 rfl rfl)
theorem dX0_cartedPints_46 : decode cX0_cartedPints 46 = .ok (.iinc 2 1, 3) := dk_132 2 1 (dk_at dksX0_cartedPints_2 0 rfl rfl)
theorem dX0_cartedPints_49 : decode cX0_cartedPints 49 = .ok (.goto (-45), 3) := dk_167 255 211 (dk_at dksX0_cartedPints_2 3 rfl rfl)
theorem dX0_cartedPints_52 : decode cX0_cartedPints 52 = .ok (.iload_n 1, 1) := dk_27 (dk_at dksX0_cartedPints_2 6 rfl rfl)
theorem dX0_cartedPints_53 : decode cX0_cartedPints 53 = .ok (.ireturn, 1) := dk_172 (dk_at dksX0_cartedPints_2 7 rfl rfl)
def dkwX0_inAllBays_2 : List UInt8 := [172]
abbrev dktX0_inAllBays_2 : List UInt8 := dkwX0_inAllBays_2 ++ []
def dkwX0_inAllBays_1 : List UInt8 := [21, 4, 50, 58, 5, 27, 42, 180, 0, 22, 25, 5, 182, 1, 161, 96, 60, 132, 4, 1, 167, 255, 229, 27]
abbrev dktX0_inAllBays_1 : List UInt8 := dkwX0_inAllBays_1 ++ dktX0_inAllBays_2
def dkwX0_inAllBays_0 : List UInt8 := [3, 60, 42, 180, 0, 22, 180, 0, 150, 77, 44, 190, 62, 3, 54, 4, 21, 4, 29, 162, 0, 27, 44]
abbrev dktX0_inAllBays_0 : List UInt8 := dkwX0_inAllBays_0 ++ dktX0_inAllBays_1
theorem dksX0_inAllBays_0 : cX0_inAllBays.data.toList.drop 0 = dktX0_inAllBays_0 := by decide +kernel
theorem dksX0_inAllBays_1 : cX0_inAllBays.data.toList.drop 23 = dktX0_inAllBays_1 := dk_seg dksX0_inAllBays_0 23 rfl rfl
theorem dksX0_inAllBays_2 : cX0_inAllBays.data.toList.drop 47 = dktX0_inAllBays_2 := dk_seg dksX0_inAllBays_1 24 rfl rfl
theorem dX0_inAllBays_0 : decode cX0_inAllBays 0 = .ok (.iconst 0, 1) := dk_3 (dk_at dksX0_inAllBays_0 0 rfl rfl)
theorem dX0_inAllBays_1 : decode cX0_inAllBays 1 = .ok (.istore_n 1, 1) := dk_60 (dk_at dksX0_inAllBays_0 1 rfl rfl)
theorem dX0_inAllBays_2 : decode cX0_inAllBays 2 = .ok (.aload_n 0, 1) := dk_42 (dk_at dksX0_inAllBays_0 2 rfl rfl)
theorem dX0_inAllBays_3 : decode cX0_inAllBays 3 = .ok (.getfield 22, 3) := dk_180 0 22 (dk_at dksX0_inAllBays_0 3 rfl rfl)
theorem dX0_inAllBays_6 : decode cX0_inAllBays 6 = .ok (.getfield 150, 3) := dk_180 0 150 (dk_at dksX0_inAllBays_0 6 rfl rfl)
theorem dX0_inAllBays_9 : decode cX0_inAllBays 9 = .ok (.astore_n 2, 1) := dk_77 (dk_at dksX0_inAllBays_0 9 rfl rfl)
theorem dX0_inAllBays_10 : decode cX0_inAllBays 10 = .ok (.aload_n 2, 1) := dk_44 (dk_at dksX0_inAllBays_0 10 rfl rfl)
theorem dX0_inAllBays_11 : decode cX0_inAllBays 11 = .ok (.arraylength, 1) := dk_190 (dk_at dksX0_inAllBays_0 11 rfl rfl)
theorem dX0_inAllBays_12 : decode cX0_inAllBays 12 = .ok (.istore_n 3, 1) := dk_62 (dk_at dksX0_inAllBays_0 12 rfl rfl)
theorem dX0_inAllBays_13 : decode cX0_inAllBays 13 = .ok (.iconst 0, 1) := dk_3 (dk_at dksX0_inAllBays_0 13 rfl rfl)
theorem dX0_inAllBays_14 : decode cX0_inAllBays 14 = .ok (.istore 4, 2) := dk_54 4 (dk_at dksX0_inAllBays_0 14 rfl rfl)
theorem dX0_inAllBays_16 : decode cX0_inAllBays 16 = .ok (.iload 4, 2) := dk_21 4 (dk_at dksX0_inAllBays_0 16 rfl rfl)
theorem dX0_inAllBays_18 : decode cX0_inAllBays 18 = .ok (.iload_n 3, 1) := dk_29 (dk_at dksX0_inAllBays_0 18 rfl rfl)
theorem dX0_inAllBays_19 : decode cX0_inAllBays 19 = .ok (.if_icmp .ge 27, 3) := dk_162 0 27 (dk_at dksX0_inAllBays_0 19 rfl rfl)
theorem dX0_inAllBays_22 : decode cX0_inAllBays 22 = .ok (.aload_n 2, 1) := dk_44 (dk_at dksX0_inAllBays_0 22 rfl rfl)
theorem dX0_inAllBays_23 : decode cX0_inAllBays 23 = .ok (.iload 4, 2) := dk_21 4 (dk_at dksX0_inAllBays_1 0 rfl rfl)
theorem dX0_inAllBays_25 : decode cX0_inAllBays 25 = .ok (.aaload, 1) := dk_50 (dk_at dksX0_inAllBays_1 2 rfl rfl)
theorem dX0_inAllBays_26 : decode cX0_inAllBays 26 = .ok (.astore 5, 2) := dk_58 5 (dk_at dksX0_inAllBays_1 3 rfl rfl)
theorem dX0_inAllBays_28 : decode cX0_inAllBays 28 = .ok (.iload_n 1, 1) := dk_27 (dk_at dksX0_inAllBays_1 5 rfl rfl)
theorem dX0_inAllBays_29 : decode cX0_inAllBays 29 = .ok (.aload_n 0, 1) := dk_42 (dk_at dksX0_inAllBays_1 6 rfl rfl)
theorem dX0_inAllBays_30 : decode cX0_inAllBays 30 = .ok (.getfield 22, 3) := dk_180 0 22 (dk_at dksX0_inAllBays_1 7 rfl rfl)
theorem dX0_inAllBays_33 : decode cX0_inAllBays 33 = .ok (.aload 5, 2) := dk_25 5 (dk_at dksX0_inAllBays_1 10 rfl rfl)
theorem dX0_inAllBays_35 : decode cX0_inAllBays 35 = .ok (.invokevirtual 417, 3) := dk_182 1 161 (dk_at dksX0_inAllBays_1 12 rfl rfl)
theorem dX0_inAllBays_38 : decode cX0_inAllBays 38 = .ok (.iadd, 1) := dk_96 (dk_at dksX0_inAllBays_1 15 rfl rfl)
theorem dX0_inAllBays_39 : decode cX0_inAllBays 39 = .ok (.istore_n 1, 1) := dk_60 (dk_at dksX0_inAllBays_1 16 rfl rfl)
theorem dX0_inAllBays_40 : decode cX0_inAllBays 40 = .ok (.iinc 4 1, 3) := dk_132 4 1 (dk_at dksX0_inAllBays_1 17 rfl rfl)
theorem dX0_inAllBays_43 : decode cX0_inAllBays 43 = .ok (.goto (-27), 3) := dk_167 255 229 (dk_at dksX0_inAllBays_1 20 rfl rfl)
theorem dX0_inAllBays_46 : decode cX0_inAllBays 46 = .ok (.iload_n 1, 1) := dk_27 (dk_at dksX0_inAllBays_1 23 rfl rfl)
theorem dX0_inAllBays_47 : decode cX0_inAllBays 47 = .ok (.ireturn, 1) := dk_172 (dk_at dksX0_inAllBays_2 0 rfl rfl)
def dkwX0_onFloors_2 : List UInt8 := [132, 4, 1, 167, 255, 224, 27, 172]
abbrev dktX0_onFloors_2 : List UInt8 := dkwX0_onFloors_2 ++ []
def dkwX0_onFloors_1 : List UInt8 := [21, 4, 50, 58, 5, 27, 25, 5, 180, 0, 210, 25, 5, 180, 0, 213, 184, 1, 192, 104, 96, 60]
abbrev dktX0_onFloors_1 : List UInt8 := dkwX0_onFloors_1 ++ dktX0_onFloors_2
def dkwX0_onFloors_0 : List UInt8 := [3, 60, 42, 180, 0, 22, 180, 0, 202, 77, 44, 190, 62, 3, 54, 4, 21, 4, 29, 162, 0, 32, 44]
abbrev dktX0_onFloors_0 : List UInt8 := dkwX0_onFloors_0 ++ dktX0_onFloors_1
theorem dksX0_onFloors_0 : cX0_onFloors.data.toList.drop 0 = dktX0_onFloors_0 := by decide +kernel
theorem dksX0_onFloors_1 : cX0_onFloors.data.toList.drop 23 = dktX0_onFloors_1 := dk_seg dksX0_onFloors_0 23 rfl rfl
theorem dksX0_onFloors_2 : cX0_onFloors.data.toList.drop 45 = dktX0_onFloors_2 := dk_seg dksX0_onFloors_1 22 rfl rfl
theorem dX0_onFloors_0 : decode cX0_onFloors 0 = .ok (.iconst 0, 1) := dk_3 (dk_at dksX0_onFloors_0 0 rfl rfl)
theorem dX0_onFloors_1 : decode cX0_onFloors 1 = .ok (.istore_n 1, 1) := dk_60 (dk_at dksX0_onFloors_0 1 rfl rfl)
theorem dX0_onFloors_2 : decode cX0_onFloors 2 = .ok (.aload_n 0, 1) := dk_42 (dk_at dksX0_onFloors_0 2 rfl rfl)
theorem dX0_onFloors_3 : decode cX0_onFloors 3 = .ok (.getfield 22, 3) := dk_180 0 22 (dk_at dksX0_onFloors_0 3 rfl rfl)
theorem dX0_onFloors_6 : decode cX0_onFloors 6 = .ok (.getfield 202, 3) := dk_180 0 202 (dk_at dksX0_onFloors_0 6 rfl rfl)
theorem dX0_onFloors_9 : decode cX0_onFloors 9 = .ok (.astore_n 2, 1) := dk_77 (dk_at dksX0_onFloors_0 9 rfl rfl)
theorem dX0_onFloors_10 : decode cX0_onFloors 10 = .ok (.aload_n 2, 1) := dk_44 (dk_at dksX0_onFloors_0 10 rfl rfl)
theorem dX0_onFloors_11 : decode cX0_onFloors 11 = .ok (.arraylength, 1) := dk_190 (dk_at dksX0_onFloors_0 11 rfl rfl)
theorem dX0_onFloors_12 : decode cX0_onFloors 12 = .ok (.istore_n 3, 1) := dk_62 (dk_at dksX0_onFloors_0 12 rfl rfl)
theorem dX0_onFloors_13 : decode cX0_onFloors 13 = .ok (.iconst 0, 1) := dk_3 (dk_at dksX0_onFloors_0 13 rfl rfl)
theorem dX0_onFloors_14 : decode cX0_onFloors 14 = .ok (.istore 4, 2) := dk_54 4 (dk_at dksX0_onFloors_0 14 rfl rfl)
theorem dX0_onFloors_16 : decode cX0_onFloors 16 = .ok (.iload 4, 2) := dk_21 4 (dk_at dksX0_onFloors_0 16 rfl rfl)
theorem dX0_onFloors_18 : decode cX0_onFloors 18 = .ok (.iload_n 3, 1) := dk_29 (dk_at dksX0_onFloors_0 18 rfl rfl)
theorem dX0_onFloors_19 : decode cX0_onFloors 19 = .ok (.if_icmp .ge 32, 3) := dk_162 0 32 (dk_at dksX0_onFloors_0 19 rfl rfl)
theorem dX0_onFloors_22 : decode cX0_onFloors 22 = .ok (.aload_n 2, 1) := dk_44 (dk_at dksX0_onFloors_0 22 rfl rfl)
theorem dX0_onFloors_23 : decode cX0_onFloors 23 = .ok (.iload 4, 2) := dk_21 4 (dk_at dksX0_onFloors_1 0 rfl rfl)
theorem dX0_onFloors_25 : decode cX0_onFloors 25 = .ok (.aaload, 1) := dk_50 (dk_at dksX0_onFloors_1 2 rfl rfl)
theorem dX0_onFloors_26 : decode cX0_onFloors 26 = .ok (.astore 5, 2) := dk_58 5 (dk_at dksX0_onFloors_1 3 rfl rfl)
theorem dX0_onFloors_28 : decode cX0_onFloors 28 = .ok (.iload_n 1, 1) := dk_27 (dk_at dksX0_onFloors_1 5 rfl rfl)
theorem dX0_onFloors_29 : decode cX0_onFloors 29 = .ok (.aload 5, 2) := dk_25 5 (dk_at dksX0_onFloors_1 6 rfl rfl)
theorem dX0_onFloors_31 : decode cX0_onFloors 31 = .ok (.getfield 210, 3) := dk_180 0 210 (dk_at dksX0_onFloors_1 8 rfl rfl)
theorem dX0_onFloors_34 : decode cX0_onFloors 34 = .ok (.aload 5, 2) := dk_25 5 (dk_at dksX0_onFloors_1 11 rfl rfl)
theorem dX0_onFloors_36 : decode cX0_onFloors 36 = .ok (.getfield 213, 3) := dk_180 0 213 (dk_at dksX0_onFloors_1 13 rfl rfl)
theorem dX0_onFloors_39 : decode cX0_onFloors 39 = .ok (.invokestatic 448, 3) := dk_184 1 192 (dk_at dksX0_onFloors_1 16 rfl rfl)
theorem dX0_onFloors_42 : decode cX0_onFloors 42 = .ok (.imul, 1) := dk_104 (dk_at dksX0_onFloors_1 19 rfl rfl)
theorem dX0_onFloors_43 : decode cX0_onFloors 43 = .ok (.iadd, 1) := dk_96 (dk_at dksX0_onFloors_1 20 rfl rfl)
theorem dX0_onFloors_44 : decode cX0_onFloors 44 = .ok (.istore_n 1, 1) := dk_60 (dk_at dksX0_onFloors_1 21 rfl rfl)
theorem dX0_onFloors_45 : decode cX0_onFloors 45 = .ok (.iinc 4 1, 3) := dk_132 4 1 (dk_at dksX0_onFloors_2 0 rfl rfl)
theorem dX0_onFloors_48 : decode cX0_onFloors 48 = .ok (.goto (-32), 3) := dk_167 255 224 (dk_at dksX0_onFloors_2 3 rfl rfl)
theorem dX0_onFloors_51 : decode cX0_onFloors 51 = .ok (.iload_n 1, 1) := dk_27 (dk_at dksX0_onFloors_2 6 rfl rfl)
theorem dX0_onFloors_52 : decode cX0_onFloors 52 = .ok (.ireturn, 1) := dk_172 (dk_at dksX0_onFloors_2 7 rfl rfl)
def dkwX0_overBins_1 : List UInt8 := [28, 172]
abbrev dktX0_overBins_1 : List UInt8 := dkwX0_overBins_1 ++ []
def dkwX0_overBins_0 : List UInt8 := [3, 61, 3, 62, 29, 6, 162, 0, 18, 28, 42, 29, 27, 182, 1, 195, 96, 61, 132, 3, 1, 167, 255, 239]
abbrev dktX0_overBins_0 : List UInt8 := dkwX0_overBins_0 ++ dktX0_overBins_1
theorem dksX0_overBins_0 : cX0_overBins.data.toList.drop 0 = dktX0_overBins_0 := by decide +kernel
theorem dksX0_overBins_1 : cX0_overBins.data.toList.drop 24 = dktX0_overBins_1 := dk_seg dksX0_overBins_0 24 rfl rfl
theorem dX0_overBins_0 : decode cX0_overBins 0 = .ok (.iconst 0, 1) := dk_3 (dk_at dksX0_overBins_0 0 rfl rfl)
theorem dX0_overBins_1 : decode cX0_overBins 1 = .ok (.istore_n 2, 1) := dk_61 (dk_at dksX0_overBins_0 1 rfl rfl)
theorem dX0_overBins_2 : decode cX0_overBins 2 = .ok (.iconst 0, 1) := dk_3 (dk_at dksX0_overBins_0 2 rfl rfl)
theorem dX0_overBins_3 : decode cX0_overBins 3 = .ok (.istore_n 3, 1) := dk_62 (dk_at dksX0_overBins_0 3 rfl rfl)
theorem dX0_overBins_4 : decode cX0_overBins 4 = .ok (.iload_n 3, 1) := dk_29 (dk_at dksX0_overBins_0 4 rfl rfl)
theorem dX0_overBins_5 : decode cX0_overBins 5 = .ok (.iconst 3, 1) := dk_6 (dk_at dksX0_overBins_0 5 rfl rfl)
theorem dX0_overBins_6 : decode cX0_overBins 6 = .ok (.if_icmp .ge 18, 3) := dk_162 0 18 (dk_at dksX0_overBins_0 6 rfl rfl)
theorem dX0_overBins_9 : decode cX0_overBins 9 = .ok (.iload_n 2, 1) := dk_28 (dk_at dksX0_overBins_0 9 rfl rfl)
theorem dX0_overBins_10 : decode cX0_overBins 10 = .ok (.aload_n 0, 1) := dk_42 (dk_at dksX0_overBins_0 10 rfl rfl)
theorem dX0_overBins_11 : decode cX0_overBins 11 = .ok (.iload_n 3, 1) := dk_29 (dk_at dksX0_overBins_0 11 rfl rfl)
theorem dX0_overBins_12 : decode cX0_overBins 12 = .ok (.iload_n 1, 1) := dk_27 (dk_at dksX0_overBins_0 12 rfl rfl)
theorem dX0_overBins_13 : decode cX0_overBins 13 = .ok (.invokevirtual 451, 3) := dk_182 1 195 (dk_at dksX0_overBins_0 13 rfl rfl)
theorem dX0_overBins_16 : decode cX0_overBins 16 = .ok (.iadd, 1) := dk_96 (dk_at dksX0_overBins_0 16 rfl rfl)
theorem dX0_overBins_17 : decode cX0_overBins 17 = .ok (.istore_n 2, 1) := dk_61 (dk_at dksX0_overBins_0 17 rfl rfl)
theorem dX0_overBins_18 : decode cX0_overBins 18 = .ok (.iinc 3 1, 3) := dk_132 3 1 (dk_at dksX0_overBins_0 18 rfl rfl)
theorem dX0_overBins_21 : decode cX0_overBins 21 = .ok (.goto (-17), 3) := dk_167 255 239 (dk_at dksX0_overBins_0 21 rfl rfl)
theorem dX0_overBins_24 : decode cX0_overBins 24 = .ok (.iload_n 2, 1) := dk_28 (dk_at dksX0_overBins_1 0 rfl rfl)
theorem dX0_overBins_25 : decode cX0_overBins 25 = .ok (.ireturn, 1) := dk_172 (dk_at dksX0_overBins_1 1 rfl rfl)
def dkwX0_grainAgain_1 : List UInt8 := [180, 0, 22, 180, 1, 174, 96, 172]
abbrev dktX0_grainAgain_1 : List UInt8 := dkwX0_grainAgain_1 ++ []
def dkwX0_grainAgain_0 : List UInt8 := [42, 182, 1, 207, 42, 182, 1, 210, 96, 42, 3, 182, 1, 213, 96, 42, 6, 182, 1, 213, 96, 42]
abbrev dktX0_grainAgain_0 : List UInt8 := dkwX0_grainAgain_0 ++ dktX0_grainAgain_1
theorem dksX0_grainAgain_0 : cX0_grainAgain.data.toList.drop 0 = dktX0_grainAgain_0 := by decide +kernel
theorem dksX0_grainAgain_1 : cX0_grainAgain.data.toList.drop 22 = dktX0_grainAgain_1 := dk_seg dksX0_grainAgain_0 22 rfl rfl
theorem dX0_grainAgain_0 : decode cX0_grainAgain 0 = .ok (.aload_n 0, 1) := dk_42 (dk_at dksX0_grainAgain_0 0 rfl rfl)
theorem dX0_grainAgain_1 : decode cX0_grainAgain 1 = .ok (.invokevirtual 463, 3) := dk_182 1 207 (dk_at dksX0_grainAgain_0 1 rfl rfl)
theorem dX0_grainAgain_4 : decode cX0_grainAgain 4 = .ok (.aload_n 0, 1) := dk_42 (dk_at dksX0_grainAgain_0 4 rfl rfl)
theorem dX0_grainAgain_5 : decode cX0_grainAgain 5 = .ok (.invokevirtual 466, 3) := dk_182 1 210 (dk_at dksX0_grainAgain_0 5 rfl rfl)
theorem dX0_grainAgain_8 : decode cX0_grainAgain 8 = .ok (.iadd, 1) := dk_96 (dk_at dksX0_grainAgain_0 8 rfl rfl)
theorem dX0_grainAgain_9 : decode cX0_grainAgain 9 = .ok (.aload_n 0, 1) := dk_42 (dk_at dksX0_grainAgain_0 9 rfl rfl)
theorem dX0_grainAgain_10 : decode cX0_grainAgain 10 = .ok (.iconst 0, 1) := dk_3 (dk_at dksX0_grainAgain_0 10 rfl rfl)
theorem dX0_grainAgain_11 : decode cX0_grainAgain 11 = .ok (.invokevirtual 469, 3) := dk_182 1 213 (dk_at dksX0_grainAgain_0 11 rfl rfl)
theorem dX0_grainAgain_14 : decode cX0_grainAgain 14 = .ok (.iadd, 1) := dk_96 (dk_at dksX0_grainAgain_0 14 rfl rfl)
theorem dX0_grainAgain_15 : decode cX0_grainAgain 15 = .ok (.aload_n 0, 1) := dk_42 (dk_at dksX0_grainAgain_0 15 rfl rfl)
theorem dX0_grainAgain_16 : decode cX0_grainAgain 16 = .ok (.iconst 3, 1) := dk_6 (dk_at dksX0_grainAgain_0 16 rfl rfl)
theorem dX0_grainAgain_17 : decode cX0_grainAgain 17 = .ok (.invokevirtual 469, 3) := dk_182 1 213 (dk_at dksX0_grainAgain_0 17 rfl rfl)
theorem dX0_grainAgain_20 : decode cX0_grainAgain 20 = .ok (.iadd, 1) := dk_96 (dk_at dksX0_grainAgain_0 20 rfl rfl)
theorem dX0_grainAgain_21 : decode cX0_grainAgain 21 = .ok (.aload_n 0, 1) := dk_42 (dk_at dksX0_grainAgain_0 21 rfl rfl)
theorem dX0_grainAgain_22 : decode cX0_grainAgain 22 = .ok (.getfield 22, 3) := dk_180 0 22 (dk_at dksX0_grainAgain_1 0 rfl rfl)
theorem dX0_grainAgain_25 : decode cX0_grainAgain 25 = .ok (.getfield 430, 3) := dk_180 1 174 (dk_at dksX0_grainAgain_1 3 rfl rfl)
theorem dX0_grainAgain_28 : decode cX0_grainAgain 28 = .ok (.iadd, 1) := dk_96 (dk_at dksX0_grainAgain_1 6 rfl rfl)
theorem dX0_grainAgain_29 : decode cX0_grainAgain 29 = .ok (.ireturn, 1) := dk_172 (dk_at dksX0_grainAgain_1 7 rfl rfl)
def dkwX0_share_1 : List UInt8 := [180, 0, 22, 180, 0, 101, 27, 50, 180, 1, 152, 134, 28, 134, 110, 174]
abbrev dktX0_share_1 : List UInt8 := dkwX0_share_1 ++ []
def dkwX0_share_0 : List UInt8 := [42, 16, 6, 182, 1, 216, 61, 28, 153, 0, 11, 42, 27, 182, 0, 124, 154, 0, 7, 11, 167, 0, 19, 42]
abbrev dktX0_share_0 : List UInt8 := dkwX0_share_0 ++ dktX0_share_1
theorem dksX0_share_0 : cX0_share.data.toList.drop 0 = dktX0_share_0 := by decide +kernel
theorem dksX0_share_1 : cX0_share.data.toList.drop 24 = dktX0_share_1 := dk_seg dksX0_share_0 24 rfl rfl
theorem dX0_share_0 : decode cX0_share 0 = .ok (.aload_n 0, 1) := dk_42 (dk_at dksX0_share_0 0 rfl rfl)
theorem dX0_share_1 : decode cX0_share 1 = .ok (.bipush 6, 2) := dk_16 6 (dk_at dksX0_share_0 1 rfl rfl)
theorem dX0_share_3 : decode cX0_share 3 = .ok (.invokevirtual 472, 3) := dk_182 1 216 (dk_at dksX0_share_0 3 rfl rfl)
theorem dX0_share_6 : decode cX0_share 6 = .ok (.istore_n 2, 1) := dk_61 (dk_at dksX0_share_0 6 rfl rfl)
theorem dX0_share_7 : decode cX0_share 7 = .ok (.iload_n 2, 1) := dk_28 (dk_at dksX0_share_0 7 rfl rfl)
theorem dX0_share_8 : decode cX0_share 8 = .ok (.ifCond .eq 11, 3) := dk_153 0 11 (dk_at dksX0_share_0 8 rfl rfl)
theorem dX0_share_11 : decode cX0_share 11 = .ok (.aload_n 0, 1) := dk_42 (dk_at dksX0_share_0 11 rfl rfl)
theorem dX0_share_12 : decode cX0_share 12 = .ok (.iload_n 1, 1) := dk_27 (dk_at dksX0_share_0 12 rfl rfl)
theorem dX0_share_13 : decode cX0_share 13 = .ok (.invokevirtual 124, 3) := dk_182 0 124 (dk_at dksX0_share_0 13 rfl rfl)
theorem dX0_share_16 : decode cX0_share 16 = .ok (.ifCond .ne 7, 3) := dk_154 0 7 (dk_at dksX0_share_0 16 rfl rfl)
theorem dX0_share_19 : decode cX0_share 19 = .ok (.fconst 0, 1) := dk_11 (dk_at dksX0_share_0 19 rfl rfl)
theorem dX0_share_20 : decode cX0_share 20 = .ok (.goto 19, 3) := dk_167 0 19 (dk_at dksX0_share_0 20 rfl rfl)
theorem dX0_share_23 : decode cX0_share 23 = .ok (.aload_n 0, 1) := dk_42 (dk_at dksX0_share_0 23 rfl rfl)
theorem dX0_share_24 : decode cX0_share 24 = .ok (.getfield 22, 3) := dk_180 0 22 (dk_at dksX0_share_1 0 rfl rfl)
theorem dX0_share_27 : decode cX0_share 27 = .ok (.getfield 101, 3) := dk_180 0 101 (dk_at dksX0_share_1 3 rfl rfl)
theorem dX0_share_30 : decode cX0_share 30 = .ok (.iload_n 1, 1) := dk_27 (dk_at dksX0_share_1 6 rfl rfl)
theorem dX0_share_31 : decode cX0_share 31 = .ok (.aaload, 1) := dk_50 (dk_at dksX0_share_1 7 rfl rfl)
theorem dX0_share_32 : decode cX0_share 32 = .ok (.getfield 408, 3) := dk_180 1 152 (dk_at dksX0_share_1 8 rfl rfl)
theorem dX0_share_35 : decode cX0_share 35 = .ok (.i2f, 1) := dk_134 (dk_at dksX0_share_1 11 rfl rfl)
theorem dX0_share_36 : decode cX0_share 36 = .ok (.iload_n 2, 1) := dk_28 (dk_at dksX0_share_1 12 rfl rfl)
theorem dX0_share_37 : decode cX0_share 37 = .ok (.i2f, 1) := dk_134 (dk_at dksX0_share_1 13 rfl rfl)
theorem dX0_share_38 : decode cX0_share 38 = .ok (.fdiv, 1) := dk_110 (dk_at dksX0_share_1 14 rfl rfl)
theorem dX0_share_39 : decode cX0_share 39 = .ok (.freturn, 1) := dk_174 (dk_at dksX0_share_1 15 rfl rfl)
def dkwX0_overParishes_1 : List UInt8 := [132, 3, 1, 167, 255, 233, 28, 172]
abbrev dktX0_overParishes_1 : List UInt8 := dkwX0_overParishes_1 ++ []
def dkwX0_overParishes_0 : List UInt8 := [3, 61, 3, 62, 29, 42, 180, 0, 22, 180, 0, 79, 162, 0, 18, 28, 42, 29, 27, 182, 1, 198, 96, 61]
abbrev dktX0_overParishes_0 : List UInt8 := dkwX0_overParishes_0 ++ dktX0_overParishes_1
theorem dksX0_overParishes_0 : cX0_overParishes.data.toList.drop 0 = dktX0_overParishes_0 := by decide +kernel
theorem dksX0_overParishes_1 : cX0_overParishes.data.toList.drop 24 = dktX0_overParishes_1 := dk_seg dksX0_overParishes_0 24 rfl rfl
theorem dX0_overParishes_0 : decode cX0_overParishes 0 = .ok (.iconst 0, 1) := dk_3 (dk_at dksX0_overParishes_0 0 rfl rfl)
theorem dX0_overParishes_1 : decode cX0_overParishes 1 = .ok (.istore_n 2, 1) := dk_61 (dk_at dksX0_overParishes_0 1 rfl rfl)
theorem dX0_overParishes_2 : decode cX0_overParishes 2 = .ok (.iconst 0, 1) := dk_3 (dk_at dksX0_overParishes_0 2 rfl rfl)
theorem dX0_overParishes_3 : decode cX0_overParishes 3 = .ok (.istore_n 3, 1) := dk_62 (dk_at dksX0_overParishes_0 3 rfl rfl)
theorem dX0_overParishes_4 : decode cX0_overParishes 4 = .ok (.iload_n 3, 1) := dk_29 (dk_at dksX0_overParishes_0 4 rfl rfl)
theorem dX0_overParishes_5 : decode cX0_overParishes 5 = .ok (.aload_n 0, 1) := dk_42 (dk_at dksX0_overParishes_0 5 rfl rfl)
theorem dX0_overParishes_6 : decode cX0_overParishes 6 = .ok (.getfield 22, 3) := dk_180 0 22 (dk_at dksX0_overParishes_0 6 rfl rfl)
theorem dX0_overParishes_9 : decode cX0_overParishes 9 = .ok (.getfield 79, 3) := dk_180 0 79 (dk_at dksX0_overParishes_0 9 rfl rfl)
theorem dX0_overParishes_12 : decode cX0_overParishes 12 = .ok (.if_icmp .ge 18, 3) := dk_162 0 18 (dk_at dksX0_overParishes_0 12 rfl rfl)
theorem dX0_overParishes_15 : decode cX0_overParishes 15 = .ok (.iload_n 2, 1) := dk_28 (dk_at dksX0_overParishes_0 15 rfl rfl)
theorem dX0_overParishes_16 : decode cX0_overParishes 16 = .ok (.aload_n 0, 1) := dk_42 (dk_at dksX0_overParishes_0 16 rfl rfl)
theorem dX0_overParishes_17 : decode cX0_overParishes 17 = .ok (.iload_n 3, 1) := dk_29 (dk_at dksX0_overParishes_0 17 rfl rfl)
theorem dX0_overParishes_18 : decode cX0_overParishes 18 = .ok (.iload_n 1, 1) := dk_27 (dk_at dksX0_overParishes_0 18 rfl rfl)
theorem dX0_overParishes_19 : decode cX0_overParishes 19 = .ok (.invokevirtual 454, 3) := dk_182 1 198 (dk_at dksX0_overParishes_0 19 rfl rfl)
theorem dX0_overParishes_22 : decode cX0_overParishes 22 = .ok (.iadd, 1) := dk_96 (dk_at dksX0_overParishes_0 22 rfl rfl)
theorem dX0_overParishes_23 : decode cX0_overParishes 23 = .ok (.istore_n 2, 1) := dk_61 (dk_at dksX0_overParishes_0 23 rfl rfl)
theorem dX0_overParishes_24 : decode cX0_overParishes 24 = .ok (.iinc 3 1, 3) := dk_132 3 1 (dk_at dksX0_overParishes_1 0 rfl rfl)
theorem dX0_overParishes_27 : decode cX0_overParishes 27 = .ok (.goto (-23), 3) := dk_167 255 233 (dk_at dksX0_overParishes_1 3 rfl rfl)
theorem dX0_overParishes_30 : decode cX0_overParishes 30 = .ok (.iload_n 2, 1) := dk_28 (dk_at dksX0_overParishes_1 6 rfl rfl)
theorem dX0_overParishes_31 : decode cX0_overParishes 31 = .ok (.ireturn, 1) := dk_172 (dk_at dksX0_overParishes_1 7 rfl rfl)
def dkwX0_meanRats_0 : List UInt8 := [42, 4, 182, 1, 219, 135, 20, 1, 222, 111, 175]
abbrev dktX0_meanRats_0 : List UInt8 := dkwX0_meanRats_0 ++ []
theorem dksX0_meanRats_0 : cX0_meanRats.data.toList.drop 0 = dktX0_meanRats_0 := by decide +kernel
theorem dX0_meanRats_0 : decode cX0_meanRats 0 = .ok (.aload_n 0, 1) := dk_42 (dk_at dksX0_meanRats_0 0 rfl rfl)
theorem dX0_meanRats_1 : decode cX0_meanRats 1 = .ok (.iconst 1, 1) := dk_4 (dk_at dksX0_meanRats_0 1 rfl rfl)
theorem dX0_meanRats_2 : decode cX0_meanRats 2 = .ok (.invokevirtual 475, 3) := dk_182 1 219 (dk_at dksX0_meanRats_0 2 rfl rfl)
theorem dX0_meanRats_5 : decode cX0_meanRats 5 = .ok (.i2d, 1) := dk_135 (dk_at dksX0_meanRats_0 5 rfl rfl)
theorem dX0_meanRats_6 : decode cX0_meanRats 6 = .ok (.ldc2_w 478, 3) := dk_20 1 222 (dk_at dksX0_meanRats_0 6 rfl rfl)
theorem dX0_meanRats_9 : decode cX0_meanRats 9 = .ok (.ddiv, 1) := dk_111 (dk_at dksX0_meanRats_0 9 rfl rfl)
theorem dX0_meanRats_10 : decode cX0_meanRats 10 = .ok (.dreturn, 1) := dk_175 (dk_at dksX0_meanRats_0 10 rfl rfl)
def dkwX0_overPlaces_1 : List UInt8 := [167, 255, 238, 28, 172]
abbrev dktX0_overPlaces_1 : List UInt8 := dkwX0_overPlaces_1 ++ []
def dkwX0_overPlaces_0 : List UInt8 := [3, 61, 3, 62, 29, 16, 7, 162, 0, 18, 28, 42, 29, 27, 182, 1, 201, 96, 61, 132, 3, 1]
abbrev dktX0_overPlaces_0 : List UInt8 := dkwX0_overPlaces_0 ++ dktX0_overPlaces_1
theorem dksX0_overPlaces_0 : cX0_overPlaces.data.toList.drop 0 = dktX0_overPlaces_0 := by decide +kernel
theorem dksX0_overPlaces_1 : cX0_overPlaces.data.toList.drop 22 = dktX0_overPlaces_1 := dk_seg dksX0_overPlaces_0 22 rfl rfl
theorem dX0_overPlaces_0 : decode cX0_overPlaces 0 = .ok (.iconst 0, 1) := dk_3 (dk_at dksX0_overPlaces_0 0 rfl rfl)
theorem dX0_overPlaces_1 : decode cX0_overPlaces 1 = .ok (.istore_n 2, 1) := dk_61 (dk_at dksX0_overPlaces_0 1 rfl rfl)
theorem dX0_overPlaces_2 : decode cX0_overPlaces 2 = .ok (.iconst 0, 1) := dk_3 (dk_at dksX0_overPlaces_0 2 rfl rfl)
theorem dX0_overPlaces_3 : decode cX0_overPlaces 3 = .ok (.istore_n 3, 1) := dk_62 (dk_at dksX0_overPlaces_0 3 rfl rfl)
theorem dX0_overPlaces_4 : decode cX0_overPlaces 4 = .ok (.iload_n 3, 1) := dk_29 (dk_at dksX0_overPlaces_0 4 rfl rfl)
theorem dX0_overPlaces_5 : decode cX0_overPlaces 5 = .ok (.bipush 7, 2) := dk_16 7 (dk_at dksX0_overPlaces_0 5 rfl rfl)
theorem dX0_overPlaces_7 : decode cX0_overPlaces 7 = .ok (.if_icmp .ge 18, 3) := dk_162 0 18 (dk_at dksX0_overPlaces_0 7 rfl rfl)
theorem dX0_overPlaces_10 : decode cX0_overPlaces 10 = .ok (.iload_n 2, 1) := dk_28 (dk_at dksX0_overPlaces_0 10 rfl rfl)
theorem dX0_overPlaces_11 : decode cX0_overPlaces 11 = .ok (.aload_n 0, 1) := dk_42 (dk_at dksX0_overPlaces_0 11 rfl rfl)
theorem dX0_overPlaces_12 : decode cX0_overPlaces 12 = .ok (.iload_n 3, 1) := dk_29 (dk_at dksX0_overPlaces_0 12 rfl rfl)
theorem dX0_overPlaces_13 : decode cX0_overPlaces 13 = .ok (.iload_n 1, 1) := dk_27 (dk_at dksX0_overPlaces_0 13 rfl rfl)
theorem dX0_overPlaces_14 : decode cX0_overPlaces 14 = .ok (.invokevirtual 457, 3) := dk_182 1 201 (dk_at dksX0_overPlaces_0 14 rfl rfl)
theorem dX0_overPlaces_17 : decode cX0_overPlaces 17 = .ok (.iadd, 1) := dk_96 (dk_at dksX0_overPlaces_0 17 rfl rfl)
theorem dX0_overPlaces_18 : decode cX0_overPlaces 18 = .ok (.istore_n 2, 1) := dk_61 (dk_at dksX0_overPlaces_0 18 rfl rfl)
theorem dX0_overPlaces_19 : decode cX0_overPlaces 19 = .ok (.iinc 3 1, 3) := dk_132 3 1 (dk_at dksX0_overPlaces_0 19 rfl rfl)
theorem dX0_overPlaces_22 : decode cX0_overPlaces 22 = .ok (.goto (-18), 3) := dk_167 255 238 (dk_at dksX0_overPlaces_1 0 rfl rfl)
theorem dX0_overPlaces_25 : decode cX0_overPlaces 25 = .ok (.iload_n 2, 1) := dk_28 (dk_at dksX0_overPlaces_1 3 rfl rfl)
theorem dX0_overPlaces_26 : decode cX0_overPlaces 26 = .ok (.ireturn, 1) := dk_172 (dk_at dksX0_overPlaces_1 4 rfl rfl)
def dkwX0_describe_4 : List UInt8 := [180, 0, 198, 182, 1, 224, 87, 167, 255, 202, 42, 180, 0, 50, 182, 1, 30, 172]
abbrev dktX0_describe_4 : List UInt8 := dkwX0_describe_4 ++ []
def dkwX0_describe_3 : List UInt8 := [182, 1, 33, 45, 180, 0, 179, 182, 1, 224, 42, 45, 182, 0, 194, 184, 1, 61, 182, 1, 33, 45]
abbrev dktX0_describe_3 : List UInt8 := dkwX0_describe_3 ++ dktX0_describe_4
def dkwX0_describe_2 : List UInt8 := [185, 1, 138, 1, 0, 153, 0, 51, 44, 185, 1, 143, 1, 0, 192, 0, 180, 78, 42, 180, 0, 50, 16, 32]
abbrev dktX0_describe_2 : List UInt8 := dkwX0_describe_2 ++ dktX0_describe_3
def dkwX0_describe_1 : List UInt8 := [182, 1, 224, 16, 58, 182, 1, 33, 87, 42, 180, 0, 22, 180, 0, 150, 27, 50, 182, 1, 134, 77, 44]
abbrev dktX0_describe_1 : List UInt8 := dkwX0_describe_1 ++ dktX0_describe_2
def dkwX0_describe_0 : List UInt8 := [27, 184, 0, 143, 154, 0, 5, 2, 172, 42, 180, 0, 50, 3, 182, 1, 111, 42, 180, 0, 50, 27]
abbrev dktX0_describe_0 : List UInt8 := dkwX0_describe_0 ++ dktX0_describe_1
theorem dksX0_describe_0 : cX0_describe.data.toList.drop 0 = dktX0_describe_0 := by decide +kernel
theorem dksX0_describe_1 : cX0_describe.data.toList.drop 22 = dktX0_describe_1 := dk_seg dksX0_describe_0 22 rfl rfl
theorem dksX0_describe_2 : cX0_describe.data.toList.drop 45 = dktX0_describe_2 := dk_seg dksX0_describe_1 23 rfl rfl
theorem dksX0_describe_3 : cX0_describe.data.toList.drop 69 = dktX0_describe_3 := dk_seg dksX0_describe_2 24 rfl rfl
theorem dksX0_describe_4 : cX0_describe.data.toList.drop 91 = dktX0_describe_4 := dk_seg dksX0_describe_3 22 rfl rfl
theorem dX0_describe_0 : decode cX0_describe 0 = .ok (.iload_n 1, 1) := dk_27 (dk_at dksX0_describe_0 0 rfl rfl)
theorem dX0_describe_1 : decode cX0_describe 1 = .ok (.invokestatic 143, 3) := dk_184 0 143 (dk_at dksX0_describe_0 1 rfl rfl)
theorem dX0_describe_4 : decode cX0_describe 4 = .ok (.ifCond .ne 5, 3) := dk_154 0 5 (dk_at dksX0_describe_0 4 rfl rfl)
theorem dX0_describe_7 : decode cX0_describe 7 = .ok (.iconst (-1), 1) := dk_2 (dk_at dksX0_describe_0 7 rfl rfl)
theorem dX0_describe_8 : decode cX0_describe 8 = .ok (.ireturn, 1) := dk_172 (dk_at dksX0_describe_0 8 rfl rfl)
theorem dX0_describe_9 : decode cX0_describe 9 = .ok (.aload_n 0, 1) := dk_42 (dk_at dksX0_describe_0 9 rfl rfl)
theorem dX0_describe_10 : decode cX0_describe 10 = .ok (.getfield 50, 3) := dk_180 0 50 (dk_at dksX0_describe_0 10 rfl rfl)
theorem dX0_describe_13 : decode cX0_describe 13 = .ok (.iconst 0, 1) := dk_3 (dk_at dksX0_describe_0 13 rfl rfl)
theorem dX0_describe_14 : decode cX0_describe 14 = .ok (.invokevirtual 367, 3) := dk_182 1 111 (dk_at dksX0_describe_0 14 rfl rfl)
theorem dX0_describe_17 : decode cX0_describe 17 = .ok (.aload_n 0, 1) := dk_42 (dk_at dksX0_describe_0 17 rfl rfl)
theorem dX0_describe_18 : decode cX0_describe 18 = .ok (.getfield 50, 3) := dk_180 0 50 (dk_at dksX0_describe_0 18 rfl rfl)
theorem dX0_describe_21 : decode cX0_describe 21 = .ok (.iload_n 1, 1) := dk_27 (dk_at dksX0_describe_0 21 rfl rfl)
theorem dX0_describe_22 : decode cX0_describe 22 = .ok (.invokevirtual 480, 3) := dk_182 1 224 (dk_at dksX0_describe_1 0 rfl rfl)
theorem dX0_describe_25 : decode cX0_describe 25 = .ok (.bipush 58, 2) := dk_16 58 (dk_at dksX0_describe_1 3 rfl rfl)
theorem dX0_describe_27 : decode cX0_describe 27 = .ok (.invokevirtual 289, 3) := dk_182 1 33 (dk_at dksX0_describe_1 5 rfl rfl)
theorem dX0_describe_30 : decode cX0_describe 30 = .ok (.pop, 1) := dk_87 (dk_at dksX0_describe_1 8 rfl rfl)
theorem dX0_describe_31 : decode cX0_describe 31 = .ok (.aload_n 0, 1) := dk_42 (dk_at dksX0_describe_1 9 rfl rfl)
theorem dX0_describe_32 : decode cX0_describe 32 = .ok (.getfield 22, 3) := dk_180 0 22 (dk_at dksX0_describe_1 10 rfl rfl)
theorem dX0_describe_35 : decode cX0_describe 35 = .ok (.getfield 150, 3) := dk_180 0 150 (dk_at dksX0_describe_1 13 rfl rfl)
theorem dX0_describe_38 : decode cX0_describe 38 = .ok (.iload_n 1, 1) := dk_27 (dk_at dksX0_describe_1 16 rfl rfl)
theorem dX0_describe_39 : decode cX0_describe 39 = .ok (.aaload, 1) := dk_50 (dk_at dksX0_describe_1 17 rfl rfl)
theorem dX0_describe_40 : decode cX0_describe 40 = .ok (.invokevirtual 390, 3) := dk_182 1 134 (dk_at dksX0_describe_1 18 rfl rfl)
theorem dX0_describe_43 : decode cX0_describe 43 = .ok (.astore_n 2, 1) := dk_77 (dk_at dksX0_describe_1 21 rfl rfl)
theorem dX0_describe_44 : decode cX0_describe 44 = .ok (.aload_n 2, 1) := dk_44 (dk_at dksX0_describe_1 22 rfl rfl)
theorem dX0_describe_45 : decode cX0_describe 45 = .ok (.invokeinterface 394 1, 5) := by decide +kernel
theorem dX0_describe_50 : decode cX0_describe 50 = .ok (.ifCond .eq 51, 3) := dk_153 0 51 (dk_at dksX0_describe_2 5 rfl rfl)
theorem dX0_describe_53 : decode cX0_describe 53 = .ok (.aload_n 2, 1) := dk_44 (dk_at dksX0_describe_2 8 rfl rfl)
theorem dX0_describe_54 : decode cX0_describe 54 = .ok (.invokeinterface 399 1, 5) := by decide +kernel
theorem dX0_describe_59 : decode cX0_describe 59 = .ok (.checkcast 180, 3) := dk_192 0 180 (dk_at dksX0_describe_2 14 rfl rfl)
theorem dX0_describe_62 : decode cX0_describe 62 = .ok (.astore_n 3, 1) := dk_78 (dk_at dksX0_describe_2 17 rfl rfl)
theorem dX0_describe_63 : decode cX0_describe 63 = .ok (.aload_n 0, 1) := dk_42 (dk_at dksX0_describe_2 18 rfl rfl)
theorem dX0_describe_64 : decode cX0_describe 64 = .ok (.getfield 50, 3) := dk_180 0 50 (dk_at dksX0_describe_2 19 rfl rfl)
theorem dX0_describe_67 : decode cX0_describe 67 = .ok (.bipush 32, 2) := dk_16 32 (dk_at dksX0_describe_2 22 rfl rfl)
theorem dX0_describe_69 : decode cX0_describe 69 = .ok (.invokevirtual 289, 3) := dk_182 1 33 (dk_at dksX0_describe_3 0 rfl rfl)
theorem dX0_describe_72 : decode cX0_describe 72 = .ok (.aload_n 3, 1) := dk_45 (dk_at dksX0_describe_3 3 rfl rfl)
theorem dX0_describe_73 : decode cX0_describe 73 = .ok (.getfield 179, 3) := dk_180 0 179 (dk_at dksX0_describe_3 4 rfl rfl)
theorem dX0_describe_76 : decode cX0_describe 76 = .ok (.invokevirtual 480, 3) := dk_182 1 224 (dk_at dksX0_describe_3 7 rfl rfl)
theorem dX0_describe_79 : decode cX0_describe 79 = .ok (.aload_n 0, 1) := dk_42 (dk_at dksX0_describe_3 10 rfl rfl)
theorem dX0_describe_80 : decode cX0_describe 80 = .ok (.aload_n 3, 1) := dk_45 (dk_at dksX0_describe_3 11 rfl rfl)
theorem dX0_describe_81 : decode cX0_describe 81 = .ok (.invokevirtual 194, 3) := dk_182 0 194 (dk_at dksX0_describe_3 12 rfl rfl)
theorem dX0_describe_84 : decode cX0_describe 84 = .ok (.invokestatic 317, 3) := dk_184 1 61 (dk_at dksX0_describe_3 15 rfl rfl)
theorem dX0_describe_87 : decode cX0_describe 87 = .ok (.invokevirtual 289, 3) := dk_182 1 33 (dk_at dksX0_describe_3 18 rfl rfl)
theorem dX0_describe_90 : decode cX0_describe 90 = .ok (.aload_n 3, 1) := dk_45 (dk_at dksX0_describe_3 21 rfl rfl)
theorem dX0_describe_91 : decode cX0_describe 91 = .ok (.getfield 198, 3) := dk_180 0 198 (dk_at dksX0_describe_4 0 rfl rfl)
theorem dX0_describe_94 : decode cX0_describe 94 = .ok (.invokevirtual 480, 3) := dk_182 1 224 (dk_at dksX0_describe_4 3 rfl rfl)
theorem dX0_describe_97 : decode cX0_describe 97 = .ok (.pop, 1) := dk_87 (dk_at dksX0_describe_4 6 rfl rfl)
theorem dX0_describe_98 : decode cX0_describe 98 = .ok (.goto (-54), 3) := dk_167 255 202 (dk_at dksX0_describe_4 7 rfl rfl)
theorem dX0_describe_101 : decode cX0_describe 101 = .ok (.aload_n 0, 1) := dk_42 (dk_at dksX0_describe_4 10 rfl rfl)
theorem dX0_describe_102 : decode cX0_describe 102 = .ok (.getfield 50, 3) := dk_180 0 50 (dk_at dksX0_describe_4 11 rfl rfl)
theorem dX0_describe_105 : decode cX0_describe 105 = .ok (.invokevirtual 286, 3) := dk_182 1 30 (dk_at dksX0_describe_4 14 rfl rfl)
theorem dX0_describe_108 : decode cX0_describe 108 = .ok (.ireturn, 1) := dk_172 (dk_at dksX0_describe_4 17 rfl rfl)
def dkwX0_written_1 : List UInt8 := [182, 1, 40, 167, 0, 4, 2, 172]
abbrev dktX0_written_1 : List UInt8 := dkwX0_written_1 ++ []
def dkwX0_written_0 : List UInt8 := [27, 3, 42, 180, 0, 50, 182, 1, 30, 4, 100, 184, 0, 82, 153, 0, 14, 42, 180, 0, 50, 27]
abbrev dktX0_written_0 : List UInt8 := dkwX0_written_0 ++ dktX0_written_1
theorem dksX0_written_0 : cX0_written.data.toList.drop 0 = dktX0_written_0 := by decide +kernel
theorem dksX0_written_1 : cX0_written.data.toList.drop 22 = dktX0_written_1 := dk_seg dksX0_written_0 22 rfl rfl
theorem dX0_written_0 : decode cX0_written 0 = .ok (.iload_n 1, 1) := dk_27 (dk_at dksX0_written_0 0 rfl rfl)
theorem dX0_written_1 : decode cX0_written 1 = .ok (.iconst 0, 1) := dk_3 (dk_at dksX0_written_0 1 rfl rfl)
theorem dX0_written_2 : decode cX0_written 2 = .ok (.aload_n 0, 1) := dk_42 (dk_at dksX0_written_0 2 rfl rfl)
theorem dX0_written_3 : decode cX0_written 3 = .ok (.getfield 50, 3) := dk_180 0 50 (dk_at dksX0_written_0 3 rfl rfl)
theorem dX0_written_6 : decode cX0_written 6 = .ok (.invokevirtual 286, 3) := dk_182 1 30 (dk_at dksX0_written_0 6 rfl rfl)
theorem dX0_written_9 : decode cX0_written 9 = .ok (.iconst 1, 1) := dk_4 (dk_at dksX0_written_0 9 rfl rfl)
theorem dX0_written_10 : decode cX0_written 10 = .ok (.isub, 1) := dk_100 (dk_at dksX0_written_0 10 rfl rfl)
theorem dX0_written_11 : decode cX0_written 11 = .ok (.invokestatic 82, 3) := dk_184 0 82 (dk_at dksX0_written_0 11 rfl rfl)
theorem dX0_written_14 : decode cX0_written 14 = .ok (.ifCond .eq 14, 3) := dk_153 0 14 (dk_at dksX0_written_0 14 rfl rfl)
theorem dX0_written_17 : decode cX0_written 17 = .ok (.aload_n 0, 1) := dk_42 (dk_at dksX0_written_0 17 rfl rfl)
theorem dX0_written_18 : decode cX0_written 18 = .ok (.getfield 50, 3) := dk_180 0 50 (dk_at dksX0_written_0 18 rfl rfl)
theorem dX0_written_21 : decode cX0_written 21 = .ok (.iload_n 1, 1) := dk_27 (dk_at dksX0_written_0 21 rfl rfl)
theorem dX0_written_22 : decode cX0_written 22 = .ok (.invokevirtual 296, 3) := dk_182 1 40 (dk_at dksX0_written_1 0 rfl rfl)
theorem dX0_written_25 : decode cX0_written 25 = .ok (.goto 4, 3) := dk_167 0 4 (dk_at dksX0_written_1 3 rfl rfl)
theorem dX0_written_28 : decode cX0_written 28 = .ok (.iconst (-1), 1) := dk_2 (dk_at dksX0_written_1 6 rfl rfl)
theorem dX0_written_29 : decode cX0_written 29 = .ok (.ireturn, 1) := dk_172 (dk_at dksX0_written_1 7 rfl rfl)
def dkwX0_account_6 : List UInt8 := [96, 172, 42, 5, 182, 1, 213, 172, 42, 180, 0, 46, 182, 1, 30, 172, 42, 180, 0, 63, 172, 16, 254, 172]
abbrev dktX0_account_6 : List UInt8 := dkwX0_account_6 ++ []
def dkwX0_account_5 : List UInt8 := [182, 1, 213, 172, 42, 4, 182, 1, 219, 172, 42, 3, 182, 1, 219, 172, 42, 180, 0, 22, 180, 1, 18, 4]
abbrev dktX0_account_5 : List UInt8 := dkwX0_account_5 ++ dktX0_account_6
def dkwX0_account_4 : List UInt8 := [180, 0, 202, 3, 50, 180, 0, 210, 42, 180, 0, 22, 180, 0, 202, 4, 50, 180, 0, 210, 96, 172, 42, 3]
abbrev dktX0_account_4 : List UInt8 := dkwX0_account_4 ++ dktX0_account_5
def dkwX0_account_3 : List UInt8 := [42, 5, 182, 1, 216, 172, 42, 6, 182, 1, 216, 172, 42, 16, 7, 182, 1, 216, 172, 42, 180, 0, 22]
abbrev dktX0_account_3 : List UInt8 := dkwX0_account_3 ++ dktX0_account_4
def dkwX0_account_2 : List UInt8 := [42, 180, 0, 22, 180, 0, 79, 172, 42, 180, 0, 22, 180, 0, 133, 172, 42, 180, 0, 22, 180, 1, 0, 172]
abbrev dktX0_account_2 : List UInt8 := dkwX0_account_2 ++ dktX0_account_3
def dkwX0_account_1 : List UInt8 := [170, 0, 0, 0, 0, 0, 187, 0, 0, 0, 0, 0, 0, 0, 13, 0, 0, 0, 71, 0, 0, 0, 79, 0, 0, 0, 87, 0, 0, 0, 95, 0, 0, 0, 101, 0, 0, 0, 107, 0, 0, 0, 114, 0, 0, 0, 140, 0, 0, 0, 146, 0, 0, 0, 152, 0, 0, 0, 158, 0, 0, 0, 168, 0, 0, 0, 174, 0, 0, 0, 182]
abbrev dktX0_account_1 : List UInt8 := dkwX0_account_1 ++ dktX0_account_2
def dkwX0_account_0 : List UInt8 := [27]
abbrev dktX0_account_0 : List UInt8 := dkwX0_account_0 ++ dktX0_account_1
theorem dksX0_account_0 : cX0_account.data.toList.drop 0 = dktX0_account_0 := by decide +kernel
theorem dksX0_account_1 : cX0_account.data.toList.drop 1 = dktX0_account_1 := dk_seg dksX0_account_0 1 rfl rfl
theorem dksX0_account_2 : cX0_account.data.toList.drop 72 = dktX0_account_2 := dk_seg dksX0_account_1 71 rfl rfl
theorem dksX0_account_3 : cX0_account.data.toList.drop 96 = dktX0_account_3 := dk_seg dksX0_account_2 24 rfl rfl
theorem dksX0_account_4 : cX0_account.data.toList.drop 119 = dktX0_account_4 := dk_seg dksX0_account_3 23 rfl rfl
theorem dksX0_account_5 : cX0_account.data.toList.drop 143 = dktX0_account_5 := dk_seg dksX0_account_4 24 rfl rfl
theorem dksX0_account_6 : cX0_account.data.toList.drop 167 = dktX0_account_6 := dk_seg dksX0_account_5 24 rfl rfl
theorem dX0_account_0 : decode cX0_account 0 = .ok (.iload_n 1, 1) := dk_27 (dk_at dksX0_account_0 0 rfl rfl)
theorem dX0_account_1 : decode cX0_account 1 = .ok (.tableswitch 187 0 13 #[71, 79, 87, 95, 101, 107, 114, 140, 146, 152, 158, 168, 174, 182], 71) := by decide +kernel
theorem dX0_account_72 : decode cX0_account 72 = .ok (.aload_n 0, 1) := dk_42 (dk_at dksX0_account_2 0 rfl rfl)
theorem dX0_account_73 : decode cX0_account 73 = .ok (.getfield 22, 3) := dk_180 0 22 (dk_at dksX0_account_2 1 rfl rfl)
theorem dX0_account_76 : decode cX0_account 76 = .ok (.getfield 79, 3) := dk_180 0 79 (dk_at dksX0_account_2 4 rfl rfl)
theorem dX0_account_79 : decode cX0_account 79 = .ok (.ireturn, 1) := dk_172 (dk_at dksX0_account_2 7 rfl rfl)
theorem dX0_account_80 : decode cX0_account 80 = .ok (.aload_n 0, 1) := dk_42 (dk_at dksX0_account_2 8 rfl rfl)
theorem dX0_account_81 : decode cX0_account 81 = .ok (.getfield 22, 3) := dk_180 0 22 (dk_at dksX0_account_2 9 rfl rfl)
theorem dX0_account_84 : decode cX0_account 84 = .ok (.getfield 133, 3) := dk_180 0 133 (dk_at dksX0_account_2 12 rfl rfl)
theorem dX0_account_87 : decode cX0_account 87 = .ok (.ireturn, 1) := dk_172 (dk_at dksX0_account_2 15 rfl rfl)
theorem dX0_account_88 : decode cX0_account 88 = .ok (.aload_n 0, 1) := dk_42 (dk_at dksX0_account_2 16 rfl rfl)
theorem dX0_account_89 : decode cX0_account 89 = .ok (.getfield 22, 3) := dk_180 0 22 (dk_at dksX0_account_2 17 rfl rfl)
theorem dX0_account_92 : decode cX0_account 92 = .ok (.getfield 256, 3) := dk_180 1 0 (dk_at dksX0_account_2 20 rfl rfl)
theorem dX0_account_95 : decode cX0_account 95 = .ok (.ireturn, 1) := dk_172 (dk_at dksX0_account_2 23 rfl rfl)
theorem dX0_account_96 : decode cX0_account 96 = .ok (.aload_n 0, 1) := dk_42 (dk_at dksX0_account_3 0 rfl rfl)
theorem dX0_account_97 : decode cX0_account 97 = .ok (.iconst 2, 1) := dk_5 (dk_at dksX0_account_3 1 rfl rfl)
theorem dX0_account_98 : decode cX0_account 98 = .ok (.invokevirtual 472, 3) := dk_182 1 216 (dk_at dksX0_account_3 2 rfl rfl)
theorem dX0_account_101 : decode cX0_account 101 = .ok (.ireturn, 1) := dk_172 (dk_at dksX0_account_3 5 rfl rfl)
theorem dX0_account_102 : decode cX0_account 102 = .ok (.aload_n 0, 1) := dk_42 (dk_at dksX0_account_3 6 rfl rfl)
theorem dX0_account_103 : decode cX0_account 103 = .ok (.iconst 3, 1) := dk_6 (dk_at dksX0_account_3 7 rfl rfl)
theorem dX0_account_104 : decode cX0_account 104 = .ok (.invokevirtual 472, 3) := dk_182 1 216 (dk_at dksX0_account_3 8 rfl rfl)
theorem dX0_account_107 : decode cX0_account 107 = .ok (.ireturn, 1) := dk_172 (dk_at dksX0_account_3 11 rfl rfl)
theorem dX0_account_108 : decode cX0_account 108 = .ok (.aload_n 0, 1) := dk_42 (dk_at dksX0_account_3 12 rfl rfl)
theorem dX0_account_109 : decode cX0_account 109 = .ok (.bipush 7, 2) := dk_16 7 (dk_at dksX0_account_3 13 rfl rfl)
theorem dX0_account_111 : decode cX0_account 111 = .ok (.invokevirtual 472, 3) := dk_182 1 216 (dk_at dksX0_account_3 15 rfl rfl)
theorem dX0_account_114 : decode cX0_account 114 = .ok (.ireturn, 1) := dk_172 (dk_at dksX0_account_3 18 rfl rfl)
theorem dX0_account_115 : decode cX0_account 115 = .ok (.aload_n 0, 1) := dk_42 (dk_at dksX0_account_3 19 rfl rfl)
theorem dX0_account_116 : decode cX0_account 116 = .ok (.getfield 22, 3) := dk_180 0 22 (dk_at dksX0_account_3 20 rfl rfl)
theorem dX0_account_119 : decode cX0_account 119 = .ok (.getfield 202, 3) := dk_180 0 202 (dk_at dksX0_account_4 0 rfl rfl)
theorem dX0_account_122 : decode cX0_account 122 = .ok (.iconst 0, 1) := dk_3 (dk_at dksX0_account_4 3 rfl rfl)
theorem dX0_account_123 : decode cX0_account 123 = .ok (.aaload, 1) := dk_50 (dk_at dksX0_account_4 4 rfl rfl)
theorem dX0_account_124 : decode cX0_account 124 = .ok (.getfield 210, 3) := dk_180 0 210 (dk_at dksX0_account_4 5 rfl rfl)
theorem dX0_account_127 : decode cX0_account 127 = .ok (.aload_n 0, 1) := dk_42 (dk_at dksX0_account_4 8 rfl rfl)
theorem dX0_account_128 : decode cX0_account 128 = .ok (.getfield 22, 3) := dk_180 0 22 (dk_at dksX0_account_4 9 rfl rfl)
theorem dX0_account_131 : decode cX0_account 131 = .ok (.getfield 202, 3) := dk_180 0 202 (dk_at dksX0_account_4 12 rfl rfl)
theorem dX0_account_134 : decode cX0_account 134 = .ok (.iconst 1, 1) := dk_4 (dk_at dksX0_account_4 15 rfl rfl)
theorem dX0_account_135 : decode cX0_account 135 = .ok (.aaload, 1) := dk_50 (dk_at dksX0_account_4 16 rfl rfl)
theorem dX0_account_136 : decode cX0_account 136 = .ok (.getfield 210, 3) := dk_180 0 210 (dk_at dksX0_account_4 17 rfl rfl)
theorem dX0_account_139 : decode cX0_account 139 = .ok (.iadd, 1) := dk_96 (dk_at dksX0_account_4 20 rfl rfl)
theorem dX0_account_140 : decode cX0_account 140 = .ok (.ireturn, 1) := dk_172 (dk_at dksX0_account_4 21 rfl rfl)
theorem dX0_account_141 : decode cX0_account 141 = .ok (.aload_n 0, 1) := dk_42 (dk_at dksX0_account_4 22 rfl rfl)
theorem dX0_account_142 : decode cX0_account 142 = .ok (.iconst 0, 1) := dk_3 (dk_at dksX0_account_4 23 rfl rfl)
theorem dX0_account_143 : decode cX0_account 143 = .ok (.invokevirtual 469, 3) := dk_182 1 213 (dk_at dksX0_account_5 0 rfl rfl)
theorem dX0_account_146 : decode cX0_account 146 = .ok (.ireturn, 1) := dk_172 (dk_at dksX0_account_5 3 rfl rfl)
theorem dX0_account_147 : decode cX0_account 147 = .ok (.aload_n 0, 1) := dk_42 (dk_at dksX0_account_5 4 rfl rfl)
theorem dX0_account_148 : decode cX0_account 148 = .ok (.iconst 1, 1) := dk_4 (dk_at dksX0_account_5 5 rfl rfl)
theorem dX0_account_149 : decode cX0_account 149 = .ok (.invokevirtual 475, 3) := dk_182 1 219 (dk_at dksX0_account_5 6 rfl rfl)
theorem dX0_account_152 : decode cX0_account 152 = .ok (.ireturn, 1) := dk_172 (dk_at dksX0_account_5 9 rfl rfl)
theorem dX0_account_153 : decode cX0_account 153 = .ok (.aload_n 0, 1) := dk_42 (dk_at dksX0_account_5 10 rfl rfl)
theorem dX0_account_154 : decode cX0_account 154 = .ok (.iconst 0, 1) := dk_3 (dk_at dksX0_account_5 11 rfl rfl)
theorem dX0_account_155 : decode cX0_account 155 = .ok (.invokevirtual 475, 3) := dk_182 1 219 (dk_at dksX0_account_5 12 rfl rfl)
theorem dX0_account_158 : decode cX0_account 158 = .ok (.ireturn, 1) := dk_172 (dk_at dksX0_account_5 15 rfl rfl)
theorem dX0_account_159 : decode cX0_account 159 = .ok (.aload_n 0, 1) := dk_42 (dk_at dksX0_account_5 16 rfl rfl)
theorem dX0_account_160 : decode cX0_account 160 = .ok (.getfield 22, 3) := dk_180 0 22 (dk_at dksX0_account_5 17 rfl rfl)
theorem dX0_account_163 : decode cX0_account 163 = .ok (.getfield 274, 3) := dk_180 1 18 (dk_at dksX0_account_5 20 rfl rfl)
theorem dX0_account_166 : decode cX0_account 166 = .ok (.iconst 1, 1) := dk_4 (dk_at dksX0_account_5 23 rfl rfl)
theorem dX0_account_167 : decode cX0_account 167 = .ok (.iadd, 1) := dk_96 (dk_at dksX0_account_6 0 rfl rfl)
theorem dX0_account_168 : decode cX0_account 168 = .ok (.ireturn, 1) := dk_172 (dk_at dksX0_account_6 1 rfl rfl)
theorem dX0_account_169 : decode cX0_account 169 = .ok (.aload_n 0, 1) := dk_42 (dk_at dksX0_account_6 2 rfl rfl)
theorem dX0_account_170 : decode cX0_account 170 = .ok (.iconst 2, 1) := dk_5 (dk_at dksX0_account_6 3 rfl rfl)
theorem dX0_account_171 : decode cX0_account 171 = .ok (.invokevirtual 469, 3) := dk_182 1 213 (dk_at dksX0_account_6 4 rfl rfl)
theorem dX0_account_174 : decode cX0_account 174 = .ok (.ireturn, 1) := dk_172 (dk_at dksX0_account_6 7 rfl rfl)
theorem dX0_account_175 : decode cX0_account 175 = .ok (.aload_n 0, 1) := dk_42 (dk_at dksX0_account_6 8 rfl rfl)
theorem dX0_account_176 : decode cX0_account 176 = .ok (.getfield 46, 3) := dk_180 0 46 (dk_at dksX0_account_6 9 rfl rfl)
theorem dX0_account_179 : decode cX0_account 179 = .ok (.invokevirtual 286, 3) := dk_182 1 30 (dk_at dksX0_account_6 12 rfl rfl)
theorem dX0_account_182 : decode cX0_account 182 = .ok (.ireturn, 1) := dk_172 (dk_at dksX0_account_6 15 rfl rfl)
theorem dX0_account_183 : decode cX0_account 183 = .ok (.aload_n 0, 1) := dk_42 (dk_at dksX0_account_6 16 rfl rfl)
theorem dX0_account_184 : decode cX0_account 184 = .ok (.getfield 63, 3) := dk_180 0 63 (dk_at dksX0_account_6 17 rfl rfl)
theorem dX0_account_187 : decode cX0_account 187 = .ok (.ireturn, 1) := dk_172 (dk_at dksX0_account_6 20 rfl rfl)
theorem dX0_account_188 : decode cX0_account 188 = .ok (.bipush (-2), 2) := dk_16 254 (dk_at dksX0_account_6 21 rfl rfl)
theorem dX0_account_190 : decode cX0_account 190 = .ok (.ireturn, 1) := dk_172 (dk_at dksX0_account_6 23 rfl rfl)
def dkwX0_undo_1 : List UInt8 := [42, 180, 0, 35, 42, 180, 0, 63, 50, 182, 0, 59, 42, 180, 0, 63, 172]
abbrev dktX0_undo_1 : List UInt8 := dkwX0_undo_1 ++ []
def dkwX0_undo_0 : List UInt8 := [42, 180, 0, 63, 154, 0, 6, 16, 252, 172, 42, 89, 180, 0, 63, 4, 100, 181, 0, 63, 42, 180, 0, 22]
abbrev dktX0_undo_0 : List UInt8 := dkwX0_undo_0 ++ dktX0_undo_1
theorem dksX0_undo_0 : cX0_undo.data.toList.drop 0 = dktX0_undo_0 := by decide +kernel
theorem dksX0_undo_1 : cX0_undo.data.toList.drop 24 = dktX0_undo_1 := dk_seg dksX0_undo_0 24 rfl rfl
theorem dX0_undo_0 : decode cX0_undo 0 = .ok (.aload_n 0, 1) := dk_42 (dk_at dksX0_undo_0 0 rfl rfl)
theorem dX0_undo_1 : decode cX0_undo 1 = .ok (.getfield 63, 3) := dk_180 0 63 (dk_at dksX0_undo_0 1 rfl rfl)
theorem dX0_undo_4 : decode cX0_undo 4 = .ok (.ifCond .ne 6, 3) := dk_154 0 6 (dk_at dksX0_undo_0 4 rfl rfl)
theorem dX0_undo_7 : decode cX0_undo 7 = .ok (.bipush (-4), 2) := dk_16 252 (dk_at dksX0_undo_0 7 rfl rfl)
theorem dX0_undo_9 : decode cX0_undo 9 = .ok (.ireturn, 1) := dk_172 (dk_at dksX0_undo_0 9 rfl rfl)
theorem dX0_undo_10 : decode cX0_undo 10 = .ok (.aload_n 0, 1) := dk_42 (dk_at dksX0_undo_0 10 rfl rfl)
theorem dX0_undo_11 : decode cX0_undo 11 = .ok (.dup, 1) := dk_89 (dk_at dksX0_undo_0 11 rfl rfl)
theorem dX0_undo_12 : decode cX0_undo 12 = .ok (.getfield 63, 3) := dk_180 0 63 (dk_at dksX0_undo_0 12 rfl rfl)
theorem dX0_undo_15 : decode cX0_undo 15 = .ok (.iconst 1, 1) := dk_4 (dk_at dksX0_undo_0 15 rfl rfl)
theorem dX0_undo_16 : decode cX0_undo 16 = .ok (.isub, 1) := dk_100 (dk_at dksX0_undo_0 16 rfl rfl)
theorem dX0_undo_17 : decode cX0_undo 17 = .ok (.putfield 63, 3) := dk_181 0 63 (dk_at dksX0_undo_0 17 rfl rfl)
theorem dX0_undo_20 : decode cX0_undo 20 = .ok (.aload_n 0, 1) := dk_42 (dk_at dksX0_undo_0 20 rfl rfl)
theorem dX0_undo_21 : decode cX0_undo 21 = .ok (.getfield 22, 3) := dk_180 0 22 (dk_at dksX0_undo_0 21 rfl rfl)
theorem dX0_undo_24 : decode cX0_undo 24 = .ok (.aload_n 0, 1) := dk_42 (dk_at dksX0_undo_1 0 rfl rfl)
theorem dX0_undo_25 : decode cX0_undo 25 = .ok (.getfield 35, 3) := dk_180 0 35 (dk_at dksX0_undo_1 1 rfl rfl)
theorem dX0_undo_28 : decode cX0_undo 28 = .ok (.aload_n 0, 1) := dk_42 (dk_at dksX0_undo_1 4 rfl rfl)
theorem dX0_undo_29 : decode cX0_undo 29 = .ok (.getfield 63, 3) := dk_180 0 63 (dk_at dksX0_undo_1 5 rfl rfl)
theorem dX0_undo_32 : decode cX0_undo 32 = .ok (.aaload, 1) := dk_50 (dk_at dksX0_undo_1 8 rfl rfl)
theorem dX0_undo_33 : decode cX0_undo 33 = .ok (.invokevirtual 59, 3) := dk_182 0 59 (dk_at dksX0_undo_1 9 rfl rfl)
theorem dX0_undo_36 : decode cX0_undo 36 = .ok (.aload_n 0, 1) := dk_42 (dk_at dksX0_undo_1 12 rfl rfl)
theorem dX0_undo_37 : decode cX0_undo 37 = .ok (.getfield 63, 3) := dk_180 0 63 (dk_at dksX0_undo_1 13 rfl rfl)
theorem dX0_undo_40 : decode cX0_undo 40 = .ok (.ireturn, 1) := dk_172 (dk_at dksX0_undo_1 16 rfl rfl)
def dkwX0_save_0 : List UInt8 := [42, 180, 0, 32, 42, 180, 0, 22, 182, 0, 59, 42, 4, 181, 1, 227, 42, 180, 0, 22, 180, 0, 79, 172]
abbrev dktX0_save_0 : List UInt8 := dkwX0_save_0 ++ []
theorem dksX0_save_0 : cX0_save.data.toList.drop 0 = dktX0_save_0 := by decide +kernel
theorem dX0_save_0 : decode cX0_save 0 = .ok (.aload_n 0, 1) := dk_42 (dk_at dksX0_save_0 0 rfl rfl)
theorem dX0_save_1 : decode cX0_save 1 = .ok (.getfield 32, 3) := dk_180 0 32 (dk_at dksX0_save_0 1 rfl rfl)
theorem dX0_save_4 : decode cX0_save 4 = .ok (.aload_n 0, 1) := dk_42 (dk_at dksX0_save_0 4 rfl rfl)
theorem dX0_save_5 : decode cX0_save 5 = .ok (.getfield 22, 3) := dk_180 0 22 (dk_at dksX0_save_0 5 rfl rfl)
theorem dX0_save_8 : decode cX0_save 8 = .ok (.invokevirtual 59, 3) := dk_182 0 59 (dk_at dksX0_save_0 8 rfl rfl)
theorem dX0_save_11 : decode cX0_save 11 = .ok (.aload_n 0, 1) := dk_42 (dk_at dksX0_save_0 11 rfl rfl)
theorem dX0_save_12 : decode cX0_save 12 = .ok (.iconst 1, 1) := dk_4 (dk_at dksX0_save_0 12 rfl rfl)
theorem dX0_save_13 : decode cX0_save 13 = .ok (.putfield 483, 3) := dk_181 1 227 (dk_at dksX0_save_0 13 rfl rfl)
theorem dX0_save_16 : decode cX0_save 16 = .ok (.aload_n 0, 1) := dk_42 (dk_at dksX0_save_0 16 rfl rfl)
theorem dX0_save_17 : decode cX0_save 17 = .ok (.getfield 22, 3) := dk_180 0 22 (dk_at dksX0_save_0 17 rfl rfl)
theorem dX0_save_20 : decode cX0_save 20 = .ok (.getfield 79, 3) := dk_180 0 79 (dk_at dksX0_save_0 20 rfl rfl)
theorem dX0_save_23 : decode cX0_save 23 = .ok (.ireturn, 1) := dk_172 (dk_at dksX0_save_0 23 rfl rfl)
def dkwX0_restore_1 : List UInt8 := [181, 0, 63, 42, 180, 0, 22, 180, 0, 79, 172]
abbrev dktX0_restore_1 : List UInt8 := dkwX0_restore_1 ++ []
def dkwX0_restore_0 : List UInt8 := [42, 180, 1, 227, 154, 0, 6, 16, 252, 172, 42, 180, 0, 22, 42, 180, 0, 32, 182, 0, 59, 42, 3]
abbrev dktX0_restore_0 : List UInt8 := dkwX0_restore_0 ++ dktX0_restore_1
theorem dksX0_restore_0 : cX0_restore.data.toList.drop 0 = dktX0_restore_0 := by decide +kernel
theorem dksX0_restore_1 : cX0_restore.data.toList.drop 23 = dktX0_restore_1 := dk_seg dksX0_restore_0 23 rfl rfl
theorem dX0_restore_0 : decode cX0_restore 0 = .ok (.aload_n 0, 1) := dk_42 (dk_at dksX0_restore_0 0 rfl rfl)
theorem dX0_restore_1 : decode cX0_restore 1 = .ok (.getfield 483, 3) := dk_180 1 227 (dk_at dksX0_restore_0 1 rfl rfl)
theorem dX0_restore_4 : decode cX0_restore 4 = .ok (.ifCond .ne 6, 3) := dk_154 0 6 (dk_at dksX0_restore_0 4 rfl rfl)
theorem dX0_restore_7 : decode cX0_restore 7 = .ok (.bipush (-4), 2) := dk_16 252 (dk_at dksX0_restore_0 7 rfl rfl)
theorem dX0_restore_9 : decode cX0_restore 9 = .ok (.ireturn, 1) := dk_172 (dk_at dksX0_restore_0 9 rfl rfl)
theorem dX0_restore_10 : decode cX0_restore 10 = .ok (.aload_n 0, 1) := dk_42 (dk_at dksX0_restore_0 10 rfl rfl)
theorem dX0_restore_11 : decode cX0_restore 11 = .ok (.getfield 22, 3) := dk_180 0 22 (dk_at dksX0_restore_0 11 rfl rfl)
theorem dX0_restore_14 : decode cX0_restore 14 = .ok (.aload_n 0, 1) := dk_42 (dk_at dksX0_restore_0 14 rfl rfl)
theorem dX0_restore_15 : decode cX0_restore 15 = .ok (.getfield 32, 3) := dk_180 0 32 (dk_at dksX0_restore_0 15 rfl rfl)
theorem dX0_restore_18 : decode cX0_restore 18 = .ok (.invokevirtual 59, 3) := dk_182 0 59 (dk_at dksX0_restore_0 18 rfl rfl)
theorem dX0_restore_21 : decode cX0_restore 21 = .ok (.aload_n 0, 1) := dk_42 (dk_at dksX0_restore_0 21 rfl rfl)
theorem dX0_restore_22 : decode cX0_restore 22 = .ok (.iconst 0, 1) := dk_3 (dk_at dksX0_restore_0 22 rfl rfl)
theorem dX0_restore_23 : decode cX0_restore 23 = .ok (.putfield 63, 3) := dk_181 0 63 (dk_at dksX0_restore_1 0 rfl rfl)
theorem dX0_restore_26 : decode cX0_restore 26 = .ok (.aload_n 0, 1) := dk_42 (dk_at dksX0_restore_1 3 rfl rfl)
theorem dX0_restore_27 : decode cX0_restore 27 = .ok (.getfield 22, 3) := dk_180 0 22 (dk_at dksX0_restore_1 4 rfl rfl)
theorem dX0_restore_30 : decode cX0_restore 30 = .ok (.getfield 79, 3) := dk_180 0 79 (dk_at dksX0_restore_1 7 rfl rfl)
theorem dX0_restore_33 : decode cX0_restore 33 = .ok (.ireturn, 1) := dk_172 (dk_at dksX0_restore_1 10 rfl rfl)
