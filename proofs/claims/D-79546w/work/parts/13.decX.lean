set_option maxRecDepth 100000
def dkwX1_init_7 : List UInt8 := [162, 0, 22, 42, 180, 0, 37, 27, 187, 0, 35, 89, 183, 0, 49, 83, 132, 1, 1, 167, 255, 234, 177]
abbrev dktX1_init_7 : List UInt8 := dkwX1_init_7 ++ []
def dkwX1_init_6 : List UInt8 := [180, 0, 31, 27, 187, 0, 29, 89, 183, 0, 48, 83, 132, 1, 1, 167, 255, 235, 3, 60, 27, 16, 7]
abbrev dktX1_init_6 : List UInt8 := dkwX1_init_6 ++ dktX1_init_7
def dkwX1_init_5 : List UInt8 := [187, 0, 23, 89, 183, 0, 47, 83, 132, 1, 1, 167, 255, 235, 3, 60, 27, 6, 162, 0, 22, 42]
abbrev dktX1_init_5 : List UInt8 := dkwX1_init_5 ++ dktX1_init_6
def dkwX1_init_4 : List UInt8 := [183, 0, 46, 83, 132, 1, 1, 167, 255, 235, 3, 60, 27, 5, 162, 0, 22, 42, 180, 0, 25, 27]
abbrev dktX1_init_4 : List UInt8 := dkwX1_init_4 ++ dktX1_init_5
def dkwX1_init_3 : List UInt8 := [83, 132, 1, 1, 167, 255, 234, 3, 60, 27, 7, 162, 0, 22, 42, 180, 0, 19, 27, 187, 0, 17, 89]
abbrev dktX1_init_3 : List UInt8 := dkwX1_init_3 ++ dktX1_init_4
def dkwX1_init_2 : List UInt8 := [2, 181, 0, 41, 3, 60, 27, 16, 6, 162, 0, 22, 42, 180, 0, 11, 27, 187, 0, 9, 89, 183, 0, 45]
abbrev dktX1_init_2 : List UInt8 := dkwX1_init_2 ++ dktX1_init_3
def dkwX1_init_1 : List UInt8 := [189, 0, 23, 181, 0, 25, 42, 6, 189, 0, 29, 181, 0, 31, 42, 16, 7, 189, 0, 35, 181, 0, 37, 42]
abbrev dktX1_init_1 : List UInt8 := dkwX1_init_1 ++ dktX1_init_2
def dkwX1_init_0 : List UInt8 := [42, 183, 0, 3, 42, 16, 6, 189, 0, 9, 181, 0, 11, 42, 7, 189, 0, 17, 181, 0, 19, 42, 5]
abbrev dktX1_init_0 : List UInt8 := dkwX1_init_0 ++ dktX1_init_1
theorem dksX1_init_0 : cX1_init.data.toList.drop 0 = dktX1_init_0 := by decide +kernel
theorem dksX1_init_1 : cX1_init.data.toList.drop 23 = dktX1_init_1 := dk_seg dksX1_init_0 23 rfl rfl
theorem dksX1_init_2 : cX1_init.data.toList.drop 47 = dktX1_init_2 := dk_seg dksX1_init_1 24 rfl rfl
theorem dksX1_init_3 : cX1_init.data.toList.drop 71 = dktX1_init_3 := dk_seg dksX1_init_2 24 rfl rfl
theorem dksX1_init_4 : cX1_init.data.toList.drop 94 = dktX1_init_4 := dk_seg dksX1_init_3 23 rfl rfl
theorem dksX1_init_5 : cX1_init.data.toList.drop 116 = dktX1_init_5 := dk_seg dksX1_init_4 22 rfl rfl
theorem dksX1_init_6 : cX1_init.data.toList.drop 138 = dktX1_init_6 := dk_seg dksX1_init_5 22 rfl rfl
theorem dksX1_init_7 : cX1_init.data.toList.drop 161 = dktX1_init_7 := dk_seg dksX1_init_6 23 rfl rfl
theorem dX1_init_0 : decode cX1_init 0 = .ok (.aload_n 0, 1) := dk_42 (dk_at dksX1_init_0 0 rfl rfl)
theorem dX1_init_1 : decode cX1_init 1 = .ok (.invokespecial 3, 3) := dk_183 0 3 (dk_at dksX1_init_0 1 rfl rfl)
theorem dX1_init_4 : decode cX1_init 4 = .ok (.aload_n 0, 1) := dk_42 (dk_at dksX1_init_0 4 rfl rfl)
theorem dX1_init_5 : decode cX1_init 5 = .ok (.bipush 6, 2) := dk_16 6 (dk_at dksX1_init_0 5 rfl rfl)
theorem dX1_init_7 : decode cX1_init 7 = .ok (.anewarray 9, 3) := dk_189 0 9 (dk_at dksX1_init_0 7 rfl rfl)
theorem dX1_init_10 : decode cX1_init 10 = .ok (.putfield 11, 3) := dk_181 0 11 (dk_at dksX1_init_0 10 rfl rfl)
theorem dX1_init_13 : decode cX1_init 13 = .ok (.aload_n 0, 1) := dk_42 (dk_at dksX1_init_0 13 rfl rfl)
theorem dX1_init_14 : decode cX1_init 14 = .ok (.iconst 4, 1) := dk_7 (dk_at dksX1_init_0 14 rfl rfl)
theorem dX1_init_15 : decode cX1_init 15 = .ok (.anewarray 17, 3) := dk_189 0 17 (dk_at dksX1_init_0 15 rfl rfl)
theorem dX1_init_18 : decode cX1_init 18 = .ok (.putfield 19, 3) := dk_181 0 19 (dk_at dksX1_init_0 18 rfl rfl)
theorem dX1_init_21 : decode cX1_init 21 = .ok (.aload_n 0, 1) := dk_42 (dk_at dksX1_init_0 21 rfl rfl)
theorem dX1_init_22 : decode cX1_init 22 = .ok (.iconst 2, 1) := dk_5 (dk_at dksX1_init_0 22 rfl rfl)
theorem dX1_init_23 : decode cX1_init 23 = .ok (.anewarray 23, 3) := dk_189 0 23 (dk_at dksX1_init_1 0 rfl rfl)
theorem dX1_init_26 : decode cX1_init 26 = .ok (.putfield 25, 3) := dk_181 0 25 (dk_at dksX1_init_1 3 rfl rfl)
theorem dX1_init_29 : decode cX1_init 29 = .ok (.aload_n 0, 1) := dk_42 (dk_at dksX1_init_1 6 rfl rfl)
theorem dX1_init_30 : decode cX1_init 30 = .ok (.iconst 3, 1) := dk_6 (dk_at dksX1_init_1 7 rfl rfl)
theorem dX1_init_31 : decode cX1_init 31 = .ok (.anewarray 29, 3) := dk_189 0 29 (dk_at dksX1_init_1 8 rfl rfl)
theorem dX1_init_34 : decode cX1_init 34 = .ok (.putfield 31, 3) := dk_181 0 31 (dk_at dksX1_init_1 11 rfl rfl)
theorem dX1_init_37 : decode cX1_init 37 = .ok (.aload_n 0, 1) := dk_42 (dk_at dksX1_init_1 14 rfl rfl)
theorem dX1_init_38 : decode cX1_init 38 = .ok (.bipush 7, 2) := dk_16 7 (dk_at dksX1_init_1 15 rfl rfl)
theorem dX1_init_40 : decode cX1_init 40 = .ok (.anewarray 35, 3) := dk_189 0 35 (dk_at dksX1_init_1 17 rfl rfl)
theorem dX1_init_43 : decode cX1_init 43 = .ok (.putfield 37, 3) := dk_181 0 37 (dk_at dksX1_init_1 20 rfl rfl)
theorem dX1_init_46 : decode cX1_init 46 = .ok (.aload_n 0, 1) := dk_42 (dk_at dksX1_init_1 23 rfl rfl)
theorem dX1_init_47 : decode cX1_init 47 = .ok (.iconst (-1), 1) := dk_2 (dk_at dksX1_init_2 0 rfl rfl)
theorem dX1_init_48 : decode cX1_init 48 = .ok (.putfield 41, 3) := dk_181 0 41 (dk_at dksX1_init_2 1 rfl rfl)
theorem dX1_init_51 : decode cX1_init 51 = .ok (.iconst 0, 1) := dk_3 (dk_at dksX1_init_2 4 rfl rfl)
theorem dX1_init_52 : decode cX1_init 52 = .ok (.istore_n 1, 1) := dk_60 (dk_at dksX1_init_2 5 rfl rfl)
theorem dX1_init_53 : decode cX1_init 53 = .ok (.iload_n 1, 1) := dk_27 (dk_at dksX1_init_2 6 rfl rfl)
theorem dX1_init_54 : decode cX1_init 54 = .ok (.bipush 6, 2) := dk_16 6 (dk_at dksX1_init_2 7 rfl rfl)
theorem dX1_init_56 : decode cX1_init 56 = .ok (.if_icmp .ge 22, 3) := dk_162 0 22 (dk_at dksX1_init_2 9 rfl rfl)
theorem dX1_init_59 : decode cX1_init 59 = .ok (.aload_n 0, 1) := dk_42 (dk_at dksX1_init_2 12 rfl rfl)
theorem dX1_init_60 : decode cX1_init 60 = .ok (.getfield 11, 3) := dk_180 0 11 (dk_at dksX1_init_2 13 rfl rfl)
theorem dX1_init_63 : decode cX1_init 63 = .ok (.iload_n 1, 1) := dk_27 (dk_at dksX1_init_2 16 rfl rfl)
theorem dX1_init_64 : decode cX1_init 64 = .ok (.new 9, 3) := dk_187 0 9 (dk_at dksX1_init_2 17 rfl rfl)
theorem dX1_init_67 : decode cX1_init 67 = .ok (.dup, 1) := dk_89 (dk_at dksX1_init_2 20 rfl rfl)
theorem dX1_init_68 : decode cX1_init 68 = .ok (.invokespecial 45, 3) := dk_183 0 45 (dk_at dksX1_init_2 21 rfl rfl)
theorem dX1_init_71 : decode cX1_init 71 = .ok (.aastore, 1) := dk_83 (dk_at dksX1_init_3 0 rfl rfl)
theorem dX1_init_72 : decode cX1_init 72 = .ok (.iinc 1 1, 3) := dk_132 1 1 (dk_at dksX1_init_3 1 rfl rfl)
theorem dX1_init_75 : decode cX1_init 75 = .ok (.goto (-22), 3) := dk_167 255 234 (dk_at dksX1_init_3 4 rfl rfl)
theorem dX1_init_78 : decode cX1_init 78 = .ok (.iconst 0, 1) := dk_3 (dk_at dksX1_init_3 7 rfl rfl)
theorem dX1_init_79 : decode cX1_init 79 = .ok (.istore_n 1, 1) := dk_60 (dk_at dksX1_init_3 8 rfl rfl)
theorem dX1_init_80 : decode cX1_init 80 = .ok (.iload_n 1, 1) := dk_27 (dk_at dksX1_init_3 9 rfl rfl)
theorem dX1_init_81 : decode cX1_init 81 = .ok (.iconst 4, 1) := dk_7 (dk_at dksX1_init_3 10 rfl rfl)
theorem dX1_init_82 : decode cX1_init 82 = .ok (.if_icmp .ge 22, 3) := dk_162 0 22 (dk_at dksX1_init_3 11 rfl rfl)
theorem dX1_init_85 : decode cX1_init 85 = .ok (.aload_n 0, 1) := dk_42 (dk_at dksX1_init_3 14 rfl rfl)
theorem dX1_init_86 : decode cX1_init 86 = .ok (.getfield 19, 3) := dk_180 0 19 (dk_at dksX1_init_3 15 rfl rfl)
theorem dX1_init_89 : decode cX1_init 89 = .ok (.iload_n 1, 1) := dk_27 (dk_at dksX1_init_3 18 rfl rfl)
theorem dX1_init_90 : decode cX1_init 90 = .ok (.new 17, 3) := dk_187 0 17 (dk_at dksX1_init_3 19 rfl rfl)
theorem dX1_init_93 : decode cX1_init 93 = .ok (.dup, 1) := dk_89 (dk_at dksX1_init_3 22 rfl rfl)
theorem dX1_init_94 : decode cX1_init 94 = .ok (.invokespecial 46, 3) := dk_183 0 46 (dk_at dksX1_init_4 0 rfl rfl)
theorem dX1_init_97 : decode cX1_init 97 = .ok (.aastore, 1) := dk_83 (dk_at dksX1_init_4 3 rfl rfl)
theorem dX1_init_98 : decode cX1_init 98 = .ok (.iinc 1 1, 3) := dk_132 1 1 (dk_at dksX1_init_4 4 rfl rfl)
theorem dX1_init_101 : decode cX1_init 101 = .ok (.goto (-21), 3) := dk_167 255 235 (dk_at dksX1_init_4 7 rfl rfl)
theorem dX1_init_104 : decode cX1_init 104 = .ok (.iconst 0, 1) := dk_3 (dk_at dksX1_init_4 10 rfl rfl)
theorem dX1_init_105 : decode cX1_init 105 = .ok (.istore_n 1, 1) := dk_60 (dk_at dksX1_init_4 11 rfl rfl)
theorem dX1_init_106 : decode cX1_init 106 = .ok (.iload_n 1, 1) := dk_27 (dk_at dksX1_init_4 12 rfl rfl)
theorem dX1_init_107 : decode cX1_init 107 = .ok (.iconst 2, 1) := dk_5 (dk_at dksX1_init_4 13 rfl rfl)
theorem dX1_init_108 : decode cX1_init 108 = .ok (.if_icmp .ge 22, 3) := dk_162 0 22 (dk_at dksX1_init_4 14 rfl rfl)
theorem dX1_init_111 : decode cX1_init 111 = .ok (.aload_n 0, 1) := dk_42 (dk_at dksX1_init_4 17 rfl rfl)
theorem dX1_init_112 : decode cX1_init 112 = .ok (.getfield 25, 3) := dk_180 0 25 (dk_at dksX1_init_4 18 rfl rfl)
theorem dX1_init_115 : decode cX1_init 115 = .ok (.iload_n 1, 1) := dk_27 (dk_at dksX1_init_4 21 rfl rfl)
theorem dX1_init_116 : decode cX1_init 116 = .ok (.new 23, 3) := dk_187 0 23 (dk_at dksX1_init_5 0 rfl rfl)
theorem dX1_init_119 : decode cX1_init 119 = .ok (.dup, 1) := dk_89 (dk_at dksX1_init_5 3 rfl rfl)
theorem dX1_init_120 : decode cX1_init 120 = .ok (.invokespecial 47, 3) := dk_183 0 47 (dk_at dksX1_init_5 4 rfl rfl)
theorem dX1_init_123 : decode cX1_init 123 = .ok (.aastore, 1) := dk_83 (dk_at dksX1_init_5 7 rfl rfl)
theorem dX1_init_124 : decode cX1_init 124 = .ok (.iinc 1 1, 3) := dk_132 1 1 (dk_at dksX1_init_5 8 rfl rfl)
theorem dX1_init_127 : decode cX1_init 127 = .ok (.goto (-21), 3) := dk_167 255 235 (dk_at dksX1_init_5 11 rfl rfl)
theorem dX1_init_130 : decode cX1_init 130 = .ok (.iconst 0, 1) := dk_3 (dk_at dksX1_init_5 14 rfl rfl)
theorem dX1_init_131 : decode cX1_init 131 = .ok (.istore_n 1, 1) := dk_60 (dk_at dksX1_init_5 15 rfl rfl)
theorem dX1_init_132 : decode cX1_init 132 = .ok (.iload_n 1, 1) := dk_27 (dk_at dksX1_init_5 16 rfl rfl)
theorem dX1_init_133 : decode cX1_init 133 = .ok (.iconst 3, 1) := dk_6 (dk_at dksX1_init_5 17 rfl rfl)
theorem dX1_init_134 : decode cX1_init 134 = .ok (.if_icmp .ge 22, 3) := dk_162 0 22 (dk_at dksX1_init_5 18 rfl rfl)
theorem dX1_init_137 : decode cX1_init 137 = .ok (.aload_n 0, 1) := dk_42 (dk_at dksX1_init_5 21 rfl rfl)
theorem dX1_init_138 : decode cX1_init 138 = .ok (.getfield 31, 3) := dk_180 0 31 (dk_at dksX1_init_6 0 rfl rfl)
theorem dX1_init_141 : decode cX1_init 141 = .ok (.iload_n 1, 1) := dk_27 (dk_at dksX1_init_6 3 rfl rfl)
theorem dX1_init_142 : decode cX1_init 142 = .ok (.new 29, 3) := dk_187 0 29 (dk_at dksX1_init_6 4 rfl rfl)
theorem dX1_init_145 : decode cX1_init 145 = .ok (.dup, 1) := dk_89 (dk_at dksX1_init_6 7 rfl rfl)
theorem dX1_init_146 : decode cX1_init 146 = .ok (.invokespecial 48, 3) := dk_183 0 48 (dk_at dksX1_init_6 8 rfl rfl)
theorem dX1_init_149 : decode cX1_init 149 = .ok (.aastore, 1) := dk_83 (dk_at dksX1_init_6 11 rfl rfl)
theorem dX1_init_150 : decode cX1_init 150 = .ok (.iinc 1 1, 3) := dk_132 1 1 (dk_at dksX1_init_6 12 rfl rfl)
theorem dX1_init_153 : decode cX1_init 153 = .ok (.goto (-21), 3) := dk_167 255 235 (dk_at dksX1_init_6 15 rfl rfl)
theorem dX1_init_156 : decode cX1_init 156 = .ok (.iconst 0, 1) := dk_3 (dk_at dksX1_init_6 18 rfl rfl)
theorem dX1_init_157 : decode cX1_init 157 = .ok (.istore_n 1, 1) := dk_60 (dk_at dksX1_init_6 19 rfl rfl)
theorem dX1_init_158 : decode cX1_init 158 = .ok (.iload_n 1, 1) := dk_27 (dk_at dksX1_init_6 20 rfl rfl)
theorem dX1_init_159 : decode cX1_init 159 = .ok (.bipush 7, 2) := dk_16 7 (dk_at dksX1_init_6 21 rfl rfl)
theorem dX1_init_161 : decode cX1_init 161 = .ok (.if_icmp .ge 22, 3) := dk_162 0 22 (dk_at dksX1_init_7 0 rfl rfl)
theorem dX1_init_164 : decode cX1_init 164 = .ok (.aload_n 0, 1) := dk_42 (dk_at dksX1_init_7 3 rfl rfl)
theorem dX1_init_165 : decode cX1_init 165 = .ok (.getfield 37, 3) := dk_180 0 37 (dk_at dksX1_init_7 4 rfl rfl)
theorem dX1_init_168 : decode cX1_init 168 = .ok (.iload_n 1, 1) := dk_27 (dk_at dksX1_init_7 7 rfl rfl)
theorem dX1_init_169 : decode cX1_init 169 = .ok (.new 35, 3) := dk_187 0 35 (dk_at dksX1_init_7 8 rfl rfl)
theorem dX1_init_172 : decode cX1_init 172 = .ok (.dup, 1) := dk_89 (dk_at dksX1_init_7 11 rfl rfl)
theorem dX1_init_173 : decode cX1_init 173 = .ok (.invokespecial 49, 3) := dk_183 0 49 (dk_at dksX1_init_7 12 rfl rfl)
theorem dX1_init_176 : decode cX1_init 176 = .ok (.aastore, 1) := dk_83 (dk_at dksX1_init_7 15 rfl rfl)
theorem dX1_init_177 : decode cX1_init 177 = .ok (.iinc 1 1, 3) := dk_132 1 1 (dk_at dksX1_init_7 16 rfl rfl)
theorem dX1_init_180 : decode cX1_init 180 = .ok (.goto (-22), 3) := dk_167 255 234 (dk_at dksX1_init_7 19 rfl rfl)
theorem dX1_init_183 : decode cX1_init 183 = .ok (.return_, 1) := dk_177 (dk_at dksX1_init_7 22 rfl rfl)
def dkwX1_clear_6 : List UInt8 := [25, 4, 182, 0, 67, 132, 3, 1, 167, 255, 238, 177]
abbrev dktX1_clear_6 : List UInt8 := dkwX1_clear_6 ++ []
def dkwX1_clear_5 : List UInt8 := [167, 255, 238, 42, 180, 0, 37, 76, 43, 190, 61, 3, 62, 29, 28, 162, 0, 19, 43, 29, 50, 58, 4]
abbrev dktX1_clear_5 : List UInt8 := dkwX1_clear_5 ++ dktX1_clear_6
def dkwX1_clear_4 : List UInt8 := [43, 190, 61, 3, 62, 29, 28, 162, 0, 19, 43, 29, 50, 58, 4, 25, 4, 182, 0, 66, 132, 3, 1]
abbrev dktX1_clear_4 : List UInt8 := dkwX1_clear_4 ++ dktX1_clear_5
def dkwX1_clear_3 : List UInt8 := [162, 0, 19, 43, 29, 50, 58, 4, 25, 4, 182, 0, 65, 132, 3, 1, 167, 255, 238, 42, 180, 0, 31, 76]
abbrev dktX1_clear_3 : List UInt8 := dkwX1_clear_3 ++ dktX1_clear_4
def dkwX1_clear_2 : List UInt8 := [25, 4, 182, 0, 62, 132, 3, 1, 167, 255, 238, 42, 180, 0, 25, 76, 43, 190, 61, 3, 62, 29, 28]
abbrev dktX1_clear_2 : List UInt8 := dkwX1_clear_2 ++ dktX1_clear_3
def dkwX1_clear_1 : List UInt8 := [181, 0, 59, 42, 180, 0, 19, 76, 43, 190, 61, 3, 62, 29, 28, 162, 0, 19, 43, 29, 50, 58, 4]
abbrev dktX1_clear_1 : List UInt8 := dkwX1_clear_1 ++ dktX1_clear_2
def dkwX1_clear_0 : List UInt8 := [42, 3, 181, 0, 50, 42, 2, 181, 0, 41, 42, 3, 181, 0, 53, 42, 3, 181, 0, 56, 42, 3]
abbrev dktX1_clear_0 : List UInt8 := dkwX1_clear_0 ++ dktX1_clear_1
theorem dksX1_clear_0 : cX1_clear.data.toList.drop 0 = dktX1_clear_0 := by decide +kernel
theorem dksX1_clear_1 : cX1_clear.data.toList.drop 22 = dktX1_clear_1 := dk_seg dksX1_clear_0 22 rfl rfl
theorem dksX1_clear_2 : cX1_clear.data.toList.drop 45 = dktX1_clear_2 := dk_seg dksX1_clear_1 23 rfl rfl
theorem dksX1_clear_3 : cX1_clear.data.toList.drop 68 = dktX1_clear_3 := dk_seg dksX1_clear_2 23 rfl rfl
theorem dksX1_clear_4 : cX1_clear.data.toList.drop 92 = dktX1_clear_4 := dk_seg dksX1_clear_3 24 rfl rfl
theorem dksX1_clear_5 : cX1_clear.data.toList.drop 115 = dktX1_clear_5 := dk_seg dksX1_clear_4 23 rfl rfl
theorem dksX1_clear_6 : cX1_clear.data.toList.drop 138 = dktX1_clear_6 := dk_seg dksX1_clear_5 23 rfl rfl
theorem dX1_clear_0 : decode cX1_clear 0 = .ok (.aload_n 0, 1) := dk_42 (dk_at dksX1_clear_0 0 rfl rfl)
theorem dX1_clear_1 : decode cX1_clear 1 = .ok (.iconst 0, 1) := dk_3 (dk_at dksX1_clear_0 1 rfl rfl)
theorem dX1_clear_2 : decode cX1_clear 2 = .ok (.putfield 50, 3) := dk_181 0 50 (dk_at dksX1_clear_0 2 rfl rfl)
theorem dX1_clear_5 : decode cX1_clear 5 = .ok (.aload_n 0, 1) := dk_42 (dk_at dksX1_clear_0 5 rfl rfl)
theorem dX1_clear_6 : decode cX1_clear 6 = .ok (.iconst (-1), 1) := dk_2 (dk_at dksX1_clear_0 6 rfl rfl)
theorem dX1_clear_7 : decode cX1_clear 7 = .ok (.putfield 41, 3) := dk_181 0 41 (dk_at dksX1_clear_0 7 rfl rfl)
theorem dX1_clear_10 : decode cX1_clear 10 = .ok (.aload_n 0, 1) := dk_42 (dk_at dksX1_clear_0 10 rfl rfl)
theorem dX1_clear_11 : decode cX1_clear 11 = .ok (.iconst 0, 1) := dk_3 (dk_at dksX1_clear_0 11 rfl rfl)
theorem dX1_clear_12 : decode cX1_clear 12 = .ok (.putfield 53, 3) := dk_181 0 53 (dk_at dksX1_clear_0 12 rfl rfl)
theorem dX1_clear_15 : decode cX1_clear 15 = .ok (.aload_n 0, 1) := dk_42 (dk_at dksX1_clear_0 15 rfl rfl)
theorem dX1_clear_16 : decode cX1_clear 16 = .ok (.iconst 0, 1) := dk_3 (dk_at dksX1_clear_0 16 rfl rfl)
theorem dX1_clear_17 : decode cX1_clear 17 = .ok (.putfield 56, 3) := dk_181 0 56 (dk_at dksX1_clear_0 17 rfl rfl)
theorem dX1_clear_20 : decode cX1_clear 20 = .ok (.aload_n 0, 1) := dk_42 (dk_at dksX1_clear_0 20 rfl rfl)
theorem dX1_clear_21 : decode cX1_clear 21 = .ok (.iconst 0, 1) := dk_3 (dk_at dksX1_clear_0 21 rfl rfl)
theorem dX1_clear_22 : decode cX1_clear 22 = .ok (.putfield 59, 3) := dk_181 0 59 (dk_at dksX1_clear_1 0 rfl rfl)
theorem dX1_clear_25 : decode cX1_clear 25 = .ok (.aload_n 0, 1) := dk_42 (dk_at dksX1_clear_1 3 rfl rfl)
theorem dX1_clear_26 : decode cX1_clear 26 = .ok (.getfield 19, 3) := dk_180 0 19 (dk_at dksX1_clear_1 4 rfl rfl)
theorem dX1_clear_29 : decode cX1_clear 29 = .ok (.astore_n 1, 1) := dk_76 (dk_at dksX1_clear_1 7 rfl rfl)
theorem dX1_clear_30 : decode cX1_clear 30 = .ok (.aload_n 1, 1) := dk_43 (dk_at dksX1_clear_1 8 rfl rfl)
theorem dX1_clear_31 : decode cX1_clear 31 = .ok (.arraylength, 1) := dk_190 (dk_at dksX1_clear_1 9 rfl rfl)
theorem dX1_clear_32 : decode cX1_clear 32 = .ok (.istore_n 2, 1) := dk_61 (dk_at dksX1_clear_1 10 rfl rfl)
theorem dX1_clear_33 : decode cX1_clear 33 = .ok (.iconst 0, 1) := dk_3 (dk_at dksX1_clear_1 11 rfl rfl)
theorem dX1_clear_34 : decode cX1_clear 34 = .ok (.istore_n 3, 1) := dk_62 (dk_at dksX1_clear_1 12 rfl rfl)
theorem dX1_clear_35 : decode cX1_clear 35 = .ok (.iload_n 3, 1) := dk_29 (dk_at dksX1_clear_1 13 rfl rfl)
theorem dX1_clear_36 : decode cX1_clear 36 = .ok (.iload_n 2, 1) := dk_28 (dk_at dksX1_clear_1 14 rfl rfl)
theorem dX1_clear_37 : decode cX1_clear 37 = .ok (.if_icmp .ge 19, 3) := dk_162 0 19 (dk_at dksX1_clear_1 15 rfl rfl)
theorem dX1_clear_40 : decode cX1_clear 40 = .ok (.aload_n 1, 1) := dk_43 (dk_at dksX1_clear_1 18 rfl rfl)
theorem dX1_clear_41 : decode cX1_clear 41 = .ok (.iload_n 3, 1) := dk_29 (dk_at dksX1_clear_1 19 rfl rfl)
theorem dX1_clear_42 : decode cX1_clear 42 = .ok (.aaload, 1) := dk_50 (dk_at dksX1_clear_1 20 rfl rfl)
theorem dX1_clear_43 : decode cX1_clear 43 = .ok (.astore 4, 2) := dk_58 4 (dk_at dksX1_clear_1 21 rfl rfl)
theorem dX1_clear_45 : decode cX1_clear 45 = .ok (.aload 4, 2) := dk_25 4 (dk_at dksX1_clear_2 0 rfl rfl)
theorem dX1_clear_47 : decode cX1_clear 47 = .ok (.invokevirtual 62, 3) := dk_182 0 62 (dk_at dksX1_clear_2 2 rfl rfl)
theorem dX1_clear_50 : decode cX1_clear 50 = .ok (.iinc 3 1, 3) := dk_132 3 1 (dk_at dksX1_clear_2 5 rfl rfl)
theorem dX1_clear_53 : decode cX1_clear 53 = .ok (.goto (-18), 3) := dk_167 255 238 (dk_at dksX1_clear_2 8 rfl rfl)
theorem dX1_clear_56 : decode cX1_clear 56 = .ok (.aload_n 0, 1) := dk_42 (dk_at dksX1_clear_2 11 rfl rfl)
theorem dX1_clear_57 : decode cX1_clear 57 = .ok (.getfield 25, 3) := dk_180 0 25 (dk_at dksX1_clear_2 12 rfl rfl)
theorem dX1_clear_60 : decode cX1_clear 60 = .ok (.astore_n 1, 1) := dk_76 (dk_at dksX1_clear_2 15 rfl rfl)
theorem dX1_clear_61 : decode cX1_clear 61 = .ok (.aload_n 1, 1) := dk_43 (dk_at dksX1_clear_2 16 rfl rfl)
theorem dX1_clear_62 : decode cX1_clear 62 = .ok (.arraylength, 1) := dk_190 (dk_at dksX1_clear_2 17 rfl rfl)
theorem dX1_clear_63 : decode cX1_clear 63 = .ok (.istore_n 2, 1) := dk_61 (dk_at dksX1_clear_2 18 rfl rfl)
theorem dX1_clear_64 : decode cX1_clear 64 = .ok (.iconst 0, 1) := dk_3 (dk_at dksX1_clear_2 19 rfl rfl)
theorem dX1_clear_65 : decode cX1_clear 65 = .ok (.istore_n 3, 1) := dk_62 (dk_at dksX1_clear_2 20 rfl rfl)
theorem dX1_clear_66 : decode cX1_clear 66 = .ok (.iload_n 3, 1) := dk_29 (dk_at dksX1_clear_2 21 rfl rfl)
theorem dX1_clear_67 : decode cX1_clear 67 = .ok (.iload_n 2, 1) := dk_28 (dk_at dksX1_clear_2 22 rfl rfl)
theorem dX1_clear_68 : decode cX1_clear 68 = .ok (.if_icmp .ge 19, 3) := dk_162 0 19 (dk_at dksX1_clear_3 0 rfl rfl)
theorem dX1_clear_71 : decode cX1_clear 71 = .ok (.aload_n 1, 1) := dk_43 (dk_at dksX1_clear_3 3 rfl rfl)
theorem dX1_clear_72 : decode cX1_clear 72 = .ok (.iload_n 3, 1) := dk_29 (dk_at dksX1_clear_3 4 rfl rfl)
theorem dX1_clear_73 : decode cX1_clear 73 = .ok (.aaload, 1) := dk_50 (dk_at dksX1_clear_3 5 rfl rfl)
theorem dX1_clear_74 : decode cX1_clear 74 = .ok (.astore 4, 2) := dk_58 4 (dk_at dksX1_clear_3 6 rfl rfl)
theorem dX1_clear_76 : decode cX1_clear 76 = .ok (.aload 4, 2) := dk_25 4 (dk_at dksX1_clear_3 8 rfl rfl)
theorem dX1_clear_78 : decode cX1_clear 78 = .ok (.invokevirtual 65, 3) := dk_182 0 65 (dk_at dksX1_clear_3 10 rfl rfl)
theorem dX1_clear_81 : decode cX1_clear 81 = .ok (.iinc 3 1, 3) := dk_132 3 1 (dk_at dksX1_clear_3 13 rfl rfl)
theorem dX1_clear_84 : decode cX1_clear 84 = .ok (.goto (-18), 3) := dk_167 255 238 (dk_at dksX1_clear_3 16 rfl rfl)
theorem dX1_clear_87 : decode cX1_clear 87 = .ok (.aload_n 0, 1) := dk_42 (dk_at dksX1_clear_3 19 rfl rfl)
theorem dX1_clear_88 : decode cX1_clear 88 = .ok (.getfield 31, 3) := dk_180 0 31 (dk_at dksX1_clear_3 20 rfl rfl)
theorem dX1_clear_91 : decode cX1_clear 91 = .ok (.astore_n 1, 1) := dk_76 (dk_at dksX1_clear_3 23 rfl rfl)
theorem dX1_clear_92 : decode cX1_clear 92 = .ok (.aload_n 1, 1) := dk_43 (dk_at dksX1_clear_4 0 rfl rfl)
theorem dX1_clear_93 : decode cX1_clear 93 = .ok (.arraylength, 1) := dk_190 (dk_at dksX1_clear_4 1 rfl rfl)
theorem dX1_clear_94 : decode cX1_clear 94 = .ok (.istore_n 2, 1) := dk_61 (dk_at dksX1_clear_4 2 rfl rfl)
theorem dX1_clear_95 : decode cX1_clear 95 = .ok (.iconst 0, 1) := dk_3 (dk_at dksX1_clear_4 3 rfl rfl)
theorem dX1_clear_96 : decode cX1_clear 96 = .ok (.istore_n 3, 1) := dk_62 (dk_at dksX1_clear_4 4 rfl rfl)
theorem dX1_clear_97 : decode cX1_clear 97 = .ok (.iload_n 3, 1) := dk_29 (dk_at dksX1_clear_4 5 rfl rfl)
theorem dX1_clear_98 : decode cX1_clear 98 = .ok (.iload_n 2, 1) := dk_28 (dk_at dksX1_clear_4 6 rfl rfl)
theorem dX1_clear_99 : decode cX1_clear 99 = .ok (.if_icmp .ge 19, 3) := dk_162 0 19 (dk_at dksX1_clear_4 7 rfl rfl)
theorem dX1_clear_102 : decode cX1_clear 102 = .ok (.aload_n 1, 1) := dk_43 (dk_at dksX1_clear_4 10 rfl rfl)
theorem dX1_clear_103 : decode cX1_clear 103 = .ok (.iload_n 3, 1) := dk_29 (dk_at dksX1_clear_4 11 rfl rfl)
theorem dX1_clear_104 : decode cX1_clear 104 = .ok (.aaload, 1) := dk_50 (dk_at dksX1_clear_4 12 rfl rfl)
theorem dX1_clear_105 : decode cX1_clear 105 = .ok (.astore 4, 2) := dk_58 4 (dk_at dksX1_clear_4 13 rfl rfl)
theorem dX1_clear_107 : decode cX1_clear 107 = .ok (.aload 4, 2) := dk_25 4 (dk_at dksX1_clear_4 15 rfl rfl)
theorem dX1_clear_109 : decode cX1_clear 109 = .ok (.invokevirtual 66, 3) := dk_182 0 66 (dk_at dksX1_clear_4 17 rfl rfl)
theorem dX1_clear_112 : decode cX1_clear 112 = .ok (.iinc 3 1, 3) := dk_132 3 1 (dk_at dksX1_clear_4 20 rfl rfl)
theorem dX1_clear_115 : decode cX1_clear 115 = .ok (.goto (-18), 3) := dk_167 255 238 (dk_at dksX1_clear_5 0 rfl rfl)
theorem dX1_clear_118 : decode cX1_clear 118 = .ok (.aload_n 0, 1) := dk_42 (dk_at dksX1_clear_5 3 rfl rfl)
theorem dX1_clear_119 : decode cX1_clear 119 = .ok (.getfield 37, 3) := dk_180 0 37 (dk_at dksX1_clear_5 4 rfl rfl)
theorem dX1_clear_122 : decode cX1_clear 122 = .ok (.astore_n 1, 1) := dk_76 (dk_at dksX1_clear_5 7 rfl rfl)
theorem dX1_clear_123 : decode cX1_clear 123 = .ok (.aload_n 1, 1) := dk_43 (dk_at dksX1_clear_5 8 rfl rfl)
theorem dX1_clear_124 : decode cX1_clear 124 = .ok (.arraylength, 1) := dk_190 (dk_at dksX1_clear_5 9 rfl rfl)
theorem dX1_clear_125 : decode cX1_clear 125 = .ok (.istore_n 2, 1) := dk_61 (dk_at dksX1_clear_5 10 rfl rfl)
theorem dX1_clear_126 : decode cX1_clear 126 = .ok (.iconst 0, 1) := dk_3 (dk_at dksX1_clear_5 11 rfl rfl)
theorem dX1_clear_127 : decode cX1_clear 127 = .ok (.istore_n 3, 1) := dk_62 (dk_at dksX1_clear_5 12 rfl rfl)
theorem dX1_clear_128 : decode cX1_clear 128 = .ok (.iload_n 3, 1) := dk_29 (dk_at dksX1_clear_5 13 rfl rfl)
theorem dX1_clear_129 : decode cX1_clear 129 = .ok (.iload_n 2, 1) := dk_28 (dk_at dksX1_clear_5 14 rfl rfl)
theorem dX1_clear_130 : decode cX1_clear 130 = .ok (.if_icmp .ge 19, 3) := dk_162 0 19 (dk_at dksX1_clear_5 15 rfl rfl)
theorem dX1_clear_133 : decode cX1_clear 133 = .ok (.aload_n 1, 1) := dk_43 (dk_at dksX1_clear_5 18 rfl rfl)
theorem dX1_clear_134 : decode cX1_clear 134 = .ok (.iload_n 3, 1) := dk_29 (dk_at dksX1_clear_5 19 rfl rfl)
theorem dX1_clear_135 : decode cX1_clear 135 = .ok (.aaload, 1) := dk_50 (dk_at dksX1_clear_5 20 rfl rfl)
theorem dX1_clear_136 : decode cX1_clear 136 = .ok (.astore 4, 2) := dk_58 4 (dk_at dksX1_clear_5 21 rfl rfl)
theorem dX1_clear_138 : decode cX1_clear 138 = .ok (.aload 4, 2) := dk_25 4 (dk_at dksX1_clear_6 0 rfl rfl)
theorem dX1_clear_140 : decode cX1_clear 140 = .ok (.invokevirtual 67, 3) := dk_182 0 67 (dk_at dksX1_clear_6 2 rfl rfl)
theorem dX1_clear_143 : decode cX1_clear 143 = .ok (.iinc 3 1, 3) := dk_132 3 1 (dk_at dksX1_clear_6 5 rfl rfl)
theorem dX1_clear_146 : decode cX1_clear 146 = .ok (.goto (-18), 3) := dk_167 255 238 (dk_at dksX1_clear_6 8 rfl rfl)
theorem dX1_clear_149 : decode cX1_clear 149 = .ok (.return_, 1) := dk_177 (dk_at dksX1_clear_6 11 rfl rfl)
def dkwX1_like_7 : List UInt8 := [180, 0, 37, 28, 50, 43, 180, 0, 37, 28, 50, 182, 0, 81, 132, 2, 1, 167, 255, 232, 177]
abbrev dktX1_like_7 : List UInt8 := dkwX1_like_7 ++ []
def dkwX1_like_6 : List UInt8 := [180, 0, 31, 28, 50, 182, 0, 78, 132, 2, 1, 167, 255, 233, 3, 61, 28, 16, 7, 162, 0, 24, 42]
abbrev dktX1_like_6 : List UInt8 := dkwX1_like_6 ++ dktX1_like_7
def dkwX1_like_5 : List UInt8 := [50, 182, 0, 75, 132, 2, 1, 167, 255, 233, 3, 61, 28, 6, 162, 0, 24, 42, 180, 0, 31, 28, 50, 43]
abbrev dktX1_like_5 : List UInt8 := dkwX1_like_5 ++ dktX1_like_6
def dkwX1_like_4 : List UInt8 := [132, 2, 1, 167, 255, 233, 3, 61, 28, 5, 162, 0, 24, 42, 180, 0, 25, 28, 50, 43, 180, 0, 25, 28]
abbrev dktX1_like_4 : List UInt8 := dkwX1_like_4 ++ dktX1_like_5
def dkwX1_like_3 : List UInt8 := [3, 61, 28, 7, 162, 0, 24, 42, 180, 0, 19, 28, 50, 43, 180, 0, 19, 28, 50, 182, 0, 72]
abbrev dktX1_like_3 : List UInt8 := dkwX1_like_3 ++ dktX1_like_4
def dkwX1_like_2 : List UInt8 := [162, 0, 24, 42, 180, 0, 11, 28, 50, 43, 180, 0, 11, 28, 50, 182, 0, 68, 132, 2, 1, 167, 255, 230]
abbrev dktX1_like_2 : List UInt8 := dkwX1_like_2 ++ dktX1_like_3
def dkwX1_like_1 : List UInt8 := [42, 43, 180, 0, 56, 181, 0, 56, 42, 43, 180, 0, 59, 181, 0, 59, 3, 61, 28, 42, 180, 0, 50]
abbrev dktX1_like_1 : List UInt8 := dkwX1_like_1 ++ dktX1_like_2
def dkwX1_like_0 : List UInt8 := [42, 43, 180, 0, 50, 181, 0, 50, 42, 43, 180, 0, 41, 181, 0, 41, 42, 43, 180, 0, 53, 181, 0, 53]
abbrev dktX1_like_0 : List UInt8 := dkwX1_like_0 ++ dktX1_like_1
theorem dksX1_like_0 : cX1_like.data.toList.drop 0 = dktX1_like_0 := by decide +kernel
theorem dksX1_like_1 : cX1_like.data.toList.drop 24 = dktX1_like_1 := dk_seg dksX1_like_0 24 rfl rfl
theorem dksX1_like_2 : cX1_like.data.toList.drop 47 = dktX1_like_2 := dk_seg dksX1_like_1 23 rfl rfl
theorem dksX1_like_3 : cX1_like.data.toList.drop 71 = dktX1_like_3 := dk_seg dksX1_like_2 24 rfl rfl
theorem dksX1_like_4 : cX1_like.data.toList.drop 93 = dktX1_like_4 := dk_seg dksX1_like_3 22 rfl rfl
theorem dksX1_like_5 : cX1_like.data.toList.drop 117 = dktX1_like_5 := dk_seg dksX1_like_4 24 rfl rfl
theorem dksX1_like_6 : cX1_like.data.toList.drop 141 = dktX1_like_6 := dk_seg dksX1_like_5 24 rfl rfl
theorem dksX1_like_7 : cX1_like.data.toList.drop 164 = dktX1_like_7 := dk_seg dksX1_like_6 23 rfl rfl
theorem dX1_like_0 : decode cX1_like 0 = .ok (.aload_n 0, 1) := dk_42 (dk_at dksX1_like_0 0 rfl rfl)
theorem dX1_like_1 : decode cX1_like 1 = .ok (.aload_n 1, 1) := dk_43 (dk_at dksX1_like_0 1 rfl rfl)
theorem dX1_like_2 : decode cX1_like 2 = .ok (.getfield 50, 3) := dk_180 0 50 (dk_at dksX1_like_0 2 rfl rfl)
theorem dX1_like_5 : decode cX1_like 5 = .ok (.putfield 50, 3) := dk_181 0 50 (dk_at dksX1_like_0 5 rfl rfl)
theorem dX1_like_8 : decode cX1_like 8 = .ok (.aload_n 0, 1) := dk_42 (dk_at dksX1_like_0 8 rfl rfl)
theorem dX1_like_9 : decode cX1_like 9 = .ok (.aload_n 1, 1) := dk_43 (dk_at dksX1_like_0 9 rfl rfl)
theorem dX1_like_10 : decode cX1_like 10 = .ok (.getfield 41, 3) := dk_180 0 41 (dk_at dksX1_like_0 10 rfl rfl)
theorem dX1_like_13 : decode cX1_like 13 = .ok (.putfield 41, 3) := dk_181 0 41 (dk_at dksX1_like_0 13 rfl rfl)
theorem dX1_like_16 : decode cX1_like 16 = .ok (.aload_n 0, 1) := dk_42 (dk_at dksX1_like_0 16 rfl rfl)
theorem dX1_like_17 : decode cX1_like 17 = .ok (.aload_n 1, 1) := dk_43 (dk_at dksX1_like_0 17 rfl rfl)
theorem dX1_like_18 : decode cX1_like 18 = .ok (.getfield 53, 3) := dk_180 0 53 (dk_at dksX1_like_0 18 rfl rfl)
theorem dX1_like_21 : decode cX1_like 21 = .ok (.putfield 53, 3) := dk_181 0 53 (dk_at dksX1_like_0 21 rfl rfl)
theorem dX1_like_24 : decode cX1_like 24 = .ok (.aload_n 0, 1) := dk_42 (dk_at dksX1_like_1 0 rfl rfl)
theorem dX1_like_25 : decode cX1_like 25 = .ok (.aload_n 1, 1) := dk_43 (dk_at dksX1_like_1 1 rfl rfl)
theorem dX1_like_26 : decode cX1_like 26 = .ok (.getfield 56, 3) := dk_180 0 56 (dk_at dksX1_like_1 2 rfl rfl)
theorem dX1_like_29 : decode cX1_like 29 = .ok (.putfield 56, 3) := dk_181 0 56 (dk_at dksX1_like_1 5 rfl rfl)
theorem dX1_like_32 : decode cX1_like 32 = .ok (.aload_n 0, 1) := dk_42 (dk_at dksX1_like_1 8 rfl rfl)
theorem dX1_like_33 : decode cX1_like 33 = .ok (.aload_n 1, 1) := dk_43 (dk_at dksX1_like_1 9 rfl rfl)
theorem dX1_like_34 : decode cX1_like 34 = .ok (.getfield 59, 3) := dk_180 0 59 (dk_at dksX1_like_1 10 rfl rfl)
theorem dX1_like_37 : decode cX1_like 37 = .ok (.putfield 59, 3) := dk_181 0 59 (dk_at dksX1_like_1 13 rfl rfl)
theorem dX1_like_40 : decode cX1_like 40 = .ok (.iconst 0, 1) := dk_3 (dk_at dksX1_like_1 16 rfl rfl)
theorem dX1_like_41 : decode cX1_like 41 = .ok (.istore_n 2, 1) := dk_61 (dk_at dksX1_like_1 17 rfl rfl)
theorem dX1_like_42 : decode cX1_like 42 = .ok (.iload_n 2, 1) := dk_28 (dk_at dksX1_like_1 18 rfl rfl)
theorem dX1_like_43 : decode cX1_like 43 = .ok (.aload_n 0, 1) := dk_42 (dk_at dksX1_like_1 19 rfl rfl)
theorem dX1_like_44 : decode cX1_like 44 = .ok (.getfield 50, 3) := dk_180 0 50 (dk_at dksX1_like_1 20 rfl rfl)
theorem dX1_like_47 : decode cX1_like 47 = .ok (.if_icmp .ge 24, 3) := dk_162 0 24 (dk_at dksX1_like_2 0 rfl rfl)
theorem dX1_like_50 : decode cX1_like 50 = .ok (.aload_n 0, 1) := dk_42 (dk_at dksX1_like_2 3 rfl rfl)
theorem dX1_like_51 : decode cX1_like 51 = .ok (.getfield 11, 3) := dk_180 0 11 (dk_at dksX1_like_2 4 rfl rfl)
theorem dX1_like_54 : decode cX1_like 54 = .ok (.iload_n 2, 1) := dk_28 (dk_at dksX1_like_2 7 rfl rfl)
theorem dX1_like_55 : decode cX1_like 55 = .ok (.aaload, 1) := dk_50 (dk_at dksX1_like_2 8 rfl rfl)
theorem dX1_like_56 : decode cX1_like 56 = .ok (.aload_n 1, 1) := dk_43 (dk_at dksX1_like_2 9 rfl rfl)
theorem dX1_like_57 : decode cX1_like 57 = .ok (.getfield 11, 3) := dk_180 0 11 (dk_at dksX1_like_2 10 rfl rfl)
theorem dX1_like_60 : decode cX1_like 60 = .ok (.iload_n 2, 1) := dk_28 (dk_at dksX1_like_2 13 rfl rfl)
theorem dX1_like_61 : decode cX1_like 61 = .ok (.aaload, 1) := dk_50 (dk_at dksX1_like_2 14 rfl rfl)
theorem dX1_like_62 : decode cX1_like 62 = .ok (.invokevirtual 68, 3) := dk_182 0 68 (dk_at dksX1_like_2 15 rfl rfl)
theorem dX1_like_65 : decode cX1_like 65 = .ok (.iinc 2 1, 3) := dk_132 2 1 (dk_at dksX1_like_2 18 rfl rfl)
theorem dX1_like_68 : decode cX1_like 68 = .ok (.goto (-26), 3) := dk_167 255 230 (dk_at dksX1_like_2 21 rfl rfl)
theorem dX1_like_71 : decode cX1_like 71 = .ok (.iconst 0, 1) := dk_3 (dk_at dksX1_like_3 0 rfl rfl)
theorem dX1_like_72 : decode cX1_like 72 = .ok (.istore_n 2, 1) := dk_61 (dk_at dksX1_like_3 1 rfl rfl)
theorem dX1_like_73 : decode cX1_like 73 = .ok (.iload_n 2, 1) := dk_28 (dk_at dksX1_like_3 2 rfl rfl)
theorem dX1_like_74 : decode cX1_like 74 = .ok (.iconst 4, 1) := dk_7 (dk_at dksX1_like_3 3 rfl rfl)
theorem dX1_like_75 : decode cX1_like 75 = .ok (.if_icmp .ge 24, 3) := dk_162 0 24 (dk_at dksX1_like_3 4 rfl rfl)
theorem dX1_like_78 : decode cX1_like 78 = .ok (.aload_n 0, 1) := dk_42 (dk_at dksX1_like_3 7 rfl rfl)
theorem dX1_like_79 : decode cX1_like 79 = .ok (.getfield 19, 3) := dk_180 0 19 (dk_at dksX1_like_3 8 rfl rfl)
theorem dX1_like_82 : decode cX1_like 82 = .ok (.iload_n 2, 1) := dk_28 (dk_at dksX1_like_3 11 rfl rfl)
theorem dX1_like_83 : decode cX1_like 83 = .ok (.aaload, 1) := dk_50 (dk_at dksX1_like_3 12 rfl rfl)
theorem dX1_like_84 : decode cX1_like 84 = .ok (.aload_n 1, 1) := dk_43 (dk_at dksX1_like_3 13 rfl rfl)
theorem dX1_like_85 : decode cX1_like 85 = .ok (.getfield 19, 3) := dk_180 0 19 (dk_at dksX1_like_3 14 rfl rfl)
theorem dX1_like_88 : decode cX1_like 88 = .ok (.iload_n 2, 1) := dk_28 (dk_at dksX1_like_3 17 rfl rfl)
theorem dX1_like_89 : decode cX1_like 89 = .ok (.aaload, 1) := dk_50 (dk_at dksX1_like_3 18 rfl rfl)
theorem dX1_like_90 : decode cX1_like 90 = .ok (.invokevirtual 72, 3) := dk_182 0 72 (dk_at dksX1_like_3 19 rfl rfl)
theorem dX1_like_93 : decode cX1_like 93 = .ok (.iinc 2 1, 3) := dk_132 2 1 (dk_at dksX1_like_4 0 rfl rfl)
theorem dX1_like_96 : decode cX1_like 96 = .ok (.goto (-23), 3) := dk_167 255 233 (dk_at dksX1_like_4 3 rfl rfl)
theorem dX1_like_99 : decode cX1_like 99 = .ok (.iconst 0, 1) := dk_3 (dk_at dksX1_like_4 6 rfl rfl)
theorem dX1_like_100 : decode cX1_like 100 = .ok (.istore_n 2, 1) := dk_61 (dk_at dksX1_like_4 7 rfl rfl)
theorem dX1_like_101 : decode cX1_like 101 = .ok (.iload_n 2, 1) := dk_28 (dk_at dksX1_like_4 8 rfl rfl)
theorem dX1_like_102 : decode cX1_like 102 = .ok (.iconst 2, 1) := dk_5 (dk_at dksX1_like_4 9 rfl rfl)
theorem dX1_like_103 : decode cX1_like 103 = .ok (.if_icmp .ge 24, 3) := dk_162 0 24 (dk_at dksX1_like_4 10 rfl rfl)
theorem dX1_like_106 : decode cX1_like 106 = .ok (.aload_n 0, 1) := dk_42 (dk_at dksX1_like_4 13 rfl rfl)
theorem dX1_like_107 : decode cX1_like 107 = .ok (.getfield 25, 3) := dk_180 0 25 (dk_at dksX1_like_4 14 rfl rfl)
theorem dX1_like_110 : decode cX1_like 110 = .ok (.iload_n 2, 1) := dk_28 (dk_at dksX1_like_4 17 rfl rfl)
theorem dX1_like_111 : decode cX1_like 111 = .ok (.aaload, 1) := dk_50 (dk_at dksX1_like_4 18 rfl rfl)
theorem dX1_like_112 : decode cX1_like 112 = .ok (.aload_n 1, 1) := dk_43 (dk_at dksX1_like_4 19 rfl rfl)
theorem dX1_like_113 : decode cX1_like 113 = .ok (.getfield 25, 3) := dk_180 0 25 (dk_at dksX1_like_4 20 rfl rfl)
theorem dX1_like_116 : decode cX1_like 116 = .ok (.iload_n 2, 1) := dk_28 (dk_at dksX1_like_4 23 rfl rfl)
theorem dX1_like_117 : decode cX1_like 117 = .ok (.aaload, 1) := dk_50 (dk_at dksX1_like_5 0 rfl rfl)
theorem dX1_like_118 : decode cX1_like 118 = .ok (.invokevirtual 75, 3) := dk_182 0 75 (dk_at dksX1_like_5 1 rfl rfl)
theorem dX1_like_121 : decode cX1_like 121 = .ok (.iinc 2 1, 3) := dk_132 2 1 (dk_at dksX1_like_5 4 rfl rfl)
theorem dX1_like_124 : decode cX1_like 124 = .ok (.goto (-23), 3) := dk_167 255 233 (dk_at dksX1_like_5 7 rfl rfl)
theorem dX1_like_127 : decode cX1_like 127 = .ok (.iconst 0, 1) := dk_3 (dk_at dksX1_like_5 10 rfl rfl)
theorem dX1_like_128 : decode cX1_like 128 = .ok (.istore_n 2, 1) := dk_61 (dk_at dksX1_like_5 11 rfl rfl)
theorem dX1_like_129 : decode cX1_like 129 = .ok (.iload_n 2, 1) := dk_28 (dk_at dksX1_like_5 12 rfl rfl)
theorem dX1_like_130 : decode cX1_like 130 = .ok (.iconst 3, 1) := dk_6 (dk_at dksX1_like_5 13 rfl rfl)
theorem dX1_like_131 : decode cX1_like 131 = .ok (.if_icmp .ge 24, 3) := dk_162 0 24 (dk_at dksX1_like_5 14 rfl rfl)
theorem dX1_like_134 : decode cX1_like 134 = .ok (.aload_n 0, 1) := dk_42 (dk_at dksX1_like_5 17 rfl rfl)
theorem dX1_like_135 : decode cX1_like 135 = .ok (.getfield 31, 3) := dk_180 0 31 (dk_at dksX1_like_5 18 rfl rfl)
theorem dX1_like_138 : decode cX1_like 138 = .ok (.iload_n 2, 1) := dk_28 (dk_at dksX1_like_5 21 rfl rfl)
theorem dX1_like_139 : decode cX1_like 139 = .ok (.aaload, 1) := dk_50 (dk_at dksX1_like_5 22 rfl rfl)
theorem dX1_like_140 : decode cX1_like 140 = .ok (.aload_n 1, 1) := dk_43 (dk_at dksX1_like_5 23 rfl rfl)
theorem dX1_like_141 : decode cX1_like 141 = .ok (.getfield 31, 3) := dk_180 0 31 (dk_at dksX1_like_6 0 rfl rfl)
theorem dX1_like_144 : decode cX1_like 144 = .ok (.iload_n 2, 1) := dk_28 (dk_at dksX1_like_6 3 rfl rfl)
theorem dX1_like_145 : decode cX1_like 145 = .ok (.aaload, 1) := dk_50 (dk_at dksX1_like_6 4 rfl rfl)
theorem dX1_like_146 : decode cX1_like 146 = .ok (.invokevirtual 78, 3) := dk_182 0 78 (dk_at dksX1_like_6 5 rfl rfl)
theorem dX1_like_149 : decode cX1_like 149 = .ok (.iinc 2 1, 3) := dk_132 2 1 (dk_at dksX1_like_6 8 rfl rfl)
theorem dX1_like_152 : decode cX1_like 152 = .ok (.goto (-23), 3) := dk_167 255 233 (dk_at dksX1_like_6 11 rfl rfl)
theorem dX1_like_155 : decode cX1_like 155 = .ok (.iconst 0, 1) := dk_3 (dk_at dksX1_like_6 14 rfl rfl)
theorem dX1_like_156 : decode cX1_like 156 = .ok (.istore_n 2, 1) := dk_61 (dk_at dksX1_like_6 15 rfl rfl)
theorem dX1_like_157 : decode cX1_like 157 = .ok (.iload_n 2, 1) := dk_28 (dk_at dksX1_like_6 16 rfl rfl)
theorem dX1_like_158 : decode cX1_like 158 = .ok (.bipush 7, 2) := dk_16 7 (dk_at dksX1_like_6 17 rfl rfl)
theorem dX1_like_160 : decode cX1_like 160 = .ok (.if_icmp .ge 24, 3) := dk_162 0 24 (dk_at dksX1_like_6 19 rfl rfl)
theorem dX1_like_163 : decode cX1_like 163 = .ok (.aload_n 0, 1) := dk_42 (dk_at dksX1_like_6 22 rfl rfl)
theorem dX1_like_164 : decode cX1_like 164 = .ok (.getfield 37, 3) := dk_180 0 37 (dk_at dksX1_like_7 0 rfl rfl)
theorem dX1_like_167 : decode cX1_like 167 = .ok (.iload_n 2, 1) := dk_28 (dk_at dksX1_like_7 3 rfl rfl)
theorem dX1_like_168 : decode cX1_like 168 = .ok (.aaload, 1) := dk_50 (dk_at dksX1_like_7 4 rfl rfl)
theorem dX1_like_169 : decode cX1_like 169 = .ok (.aload_n 1, 1) := dk_43 (dk_at dksX1_like_7 5 rfl rfl)
theorem dX1_like_170 : decode cX1_like 170 = .ok (.getfield 37, 3) := dk_180 0 37 (dk_at dksX1_like_7 6 rfl rfl)
theorem dX1_like_173 : decode cX1_like 173 = .ok (.iload_n 2, 1) := dk_28 (dk_at dksX1_like_7 9 rfl rfl)
theorem dX1_like_174 : decode cX1_like 174 = .ok (.aaload, 1) := dk_50 (dk_at dksX1_like_7 10 rfl rfl)
theorem dX1_like_175 : decode cX1_like 175 = .ok (.invokevirtual 81, 3) := dk_182 0 81 (dk_at dksX1_like_7 11 rfl rfl)
theorem dX1_like_178 : decode cX1_like 178 = .ok (.iinc 2 1, 3) := dk_132 2 1 (dk_at dksX1_like_7 14 rfl rfl)
theorem dX1_like_181 : decode cX1_like 181 = .ok (.goto (-24), 3) := dk_167 255 232 (dk_at dksX1_like_7 17 rfl rfl)
theorem dX1_like_184 : decode cX1_like 184 = .ok (.return_, 1) := dk_177 (dk_at dksX1_like_7 20 rfl rfl)
def dkwX1_passes_6 : List UInt8 := [167, 255, 232, 42, 89, 180, 0, 53, 4, 96, 181, 0, 53, 27, 172]
abbrev dktX1_passes_6 : List UInt8 := dkwX1_passes_6 ++ []
def dkwX1_passes_5 : List UInt8 := [28, 42, 180, 0, 50, 162, 0, 22, 42, 180, 0, 11, 28, 50, 42, 180, 0, 53, 182, 0, 159, 132, 2, 1]
abbrev dktX1_passes_5 : List UInt8 := dkwX1_passes_5 ++ dktX1_passes_6
def dkwX1_passes_4 : List UInt8 := [42, 180, 0, 41, 28, 160, 0, 7, 4, 167, 0, 4, 3, 182, 0, 155, 132, 2, 1, 167, 255, 187, 3, 61]
abbrev dktX1_passes_4 : List UInt8 := dkwX1_passes_4 ++ dktX1_passes_5
def dkwX1_passes_3 : List UInt8 := [182, 0, 148, 167, 0, 16, 42, 42, 180, 0, 31, 28, 7, 100, 50, 45, 182, 0, 152, 54, 4, 45, 21, 4]
abbrev dktX1_passes_3 : List UInt8 := dkwX1_passes_3 ++ dktX1_passes_4
def dkwX1_passes_2 : List UInt8 := [162, 0, 69, 42, 180, 0, 37, 28, 50, 78, 28, 7, 162, 0, 17, 42, 42, 180, 0, 19, 28, 50, 45]
abbrev dktX1_passes_2 : List UInt8 := dkwX1_passes_2 ++ dktX1_passes_3
def dkwX1_passes_1 : List UInt8 := [58, 5, 27, 42, 25, 5, 182, 0, 144, 96, 60, 132, 4, 1, 167, 255, 232, 3, 61, 28, 16, 7]
abbrev dktX1_passes_1 : List UInt8 := dkwX1_passes_1 ++ dktX1_passes_2
def dkwX1_passes_0 : List UInt8 := [3, 60, 42, 180, 0, 25, 77, 44, 190, 62, 3, 54, 4, 21, 4, 29, 162, 0, 24, 44, 21, 4, 50]
abbrev dktX1_passes_0 : List UInt8 := dkwX1_passes_0 ++ dktX1_passes_1
theorem dksX1_passes_0 : cX1_passes.data.toList.drop 0 = dktX1_passes_0 := by decide +kernel
theorem dksX1_passes_1 : cX1_passes.data.toList.drop 23 = dktX1_passes_1 := dk_seg dksX1_passes_0 23 rfl rfl
theorem dksX1_passes_2 : cX1_passes.data.toList.drop 45 = dktX1_passes_2 := dk_seg dksX1_passes_1 22 rfl rfl
theorem dksX1_passes_3 : cX1_passes.data.toList.drop 68 = dktX1_passes_3 := dk_seg dksX1_passes_2 23 rfl rfl
theorem dksX1_passes_4 : cX1_passes.data.toList.drop 92 = dktX1_passes_4 := dk_seg dksX1_passes_3 24 rfl rfl
theorem dksX1_passes_5 : cX1_passes.data.toList.drop 116 = dktX1_passes_5 := dk_seg dksX1_passes_4 24 rfl rfl
theorem dksX1_passes_6 : cX1_passes.data.toList.drop 140 = dktX1_passes_6 := dk_seg dksX1_passes_5 24 rfl rfl
theorem dX1_passes_0 : decode cX1_passes 0 = .ok (.iconst 0, 1) := dk_3 (dk_at dksX1_passes_0 0 rfl rfl)
theorem dX1_passes_1 : decode cX1_passes 1 = .ok (.istore_n 1, 1) := dk_60 (dk_at dksX1_passes_0 1 rfl rfl)
theorem dX1_passes_2 : decode cX1_passes 2 = .ok (.aload_n 0, 1) := dk_42 (dk_at dksX1_passes_0 2 rfl rfl)
theorem dX1_passes_3 : decode cX1_passes 3 = .ok (.getfield 25, 3) := dk_180 0 25 (dk_at dksX1_passes_0 3 rfl rfl)
theorem dX1_passes_6 : decode cX1_passes 6 = .ok (.astore_n 2, 1) := dk_77 (dk_at dksX1_passes_0 6 rfl rfl)
theorem dX1_passes_7 : decode cX1_passes 7 = .ok (.aload_n 2, 1) := dk_44 (dk_at dksX1_passes_0 7 rfl rfl)
theorem dX1_passes_8 : decode cX1_passes 8 = .ok (.arraylength, 1) := dk_190 (dk_at dksX1_passes_0 8 rfl rfl)
theorem dX1_passes_9 : decode cX1_passes 9 = .ok (.istore_n 3, 1) := dk_62 (dk_at dksX1_passes_0 9 rfl rfl)
theorem dX1_passes_10 : decode cX1_passes 10 = .ok (.iconst 0, 1) := dk_3 (dk_at dksX1_passes_0 10 rfl rfl)
theorem dX1_passes_11 : decode cX1_passes 11 = .ok (.istore 4, 2) := dk_54 4 (dk_at dksX1_passes_0 11 rfl rfl)
theorem dX1_passes_13 : decode cX1_passes 13 = .ok (.iload 4, 2) := dk_21 4 (dk_at dksX1_passes_0 13 rfl rfl)
theorem dX1_passes_15 : decode cX1_passes 15 = .ok (.iload_n 3, 1) := dk_29 (dk_at dksX1_passes_0 15 rfl rfl)
theorem dX1_passes_16 : decode cX1_passes 16 = .ok (.if_icmp .ge 24, 3) := dk_162 0 24 (dk_at dksX1_passes_0 16 rfl rfl)
theorem dX1_passes_19 : decode cX1_passes 19 = .ok (.aload_n 2, 1) := dk_44 (dk_at dksX1_passes_0 19 rfl rfl)
theorem dX1_passes_20 : decode cX1_passes 20 = .ok (.iload 4, 2) := dk_21 4 (dk_at dksX1_passes_0 20 rfl rfl)
theorem dX1_passes_22 : decode cX1_passes 22 = .ok (.aaload, 1) := dk_50 (dk_at dksX1_passes_0 22 rfl rfl)
theorem dX1_passes_23 : decode cX1_passes 23 = .ok (.astore 5, 2) := dk_58 5 (dk_at dksX1_passes_1 0 rfl rfl)
theorem dX1_passes_25 : decode cX1_passes 25 = .ok (.iload_n 1, 1) := dk_27 (dk_at dksX1_passes_1 2 rfl rfl)
theorem dX1_passes_26 : decode cX1_passes 26 = .ok (.aload_n 0, 1) := dk_42 (dk_at dksX1_passes_1 3 rfl rfl)
theorem dX1_passes_27 : decode cX1_passes 27 = .ok (.aload 5, 2) := dk_25 5 (dk_at dksX1_passes_1 4 rfl rfl)
theorem dX1_passes_29 : decode cX1_passes 29 = .ok (.invokevirtual 144, 3) := dk_182 0 144 (dk_at dksX1_passes_1 6 rfl rfl)
theorem dX1_passes_32 : decode cX1_passes 32 = .ok (.iadd, 1) := dk_96 (dk_at dksX1_passes_1 9 rfl rfl)
theorem dX1_passes_33 : decode cX1_passes 33 = .ok (.istore_n 1, 1) := dk_60 (dk_at dksX1_passes_1 10 rfl rfl)
theorem dX1_passes_34 : decode cX1_passes 34 = .ok (.iinc 4 1, 3) := dk_132 4 1 (dk_at dksX1_passes_1 11 rfl rfl)
theorem dX1_passes_37 : decode cX1_passes 37 = .ok (.goto (-24), 3) := dk_167 255 232 (dk_at dksX1_passes_1 14 rfl rfl)
theorem dX1_passes_40 : decode cX1_passes 40 = .ok (.iconst 0, 1) := dk_3 (dk_at dksX1_passes_1 17 rfl rfl)
theorem dX1_passes_41 : decode cX1_passes 41 = .ok (.istore_n 2, 1) := dk_61 (dk_at dksX1_passes_1 18 rfl rfl)
theorem dX1_passes_42 : decode cX1_passes 42 = .ok (.iload_n 2, 1) := dk_28 (dk_at dksX1_passes_1 19 rfl rfl)
theorem dX1_passes_43 : decode cX1_passes 43 = .ok (.bipush 7, 2) := dk_16 7 (dk_at dksX1_passes_1 20 rfl rfl)
theorem dX1_passes_45 : decode cX1_passes 45 = .ok (.if_icmp .ge 69, 3) := dk_162 0 69 (dk_at dksX1_passes_2 0 rfl rfl)
theorem dX1_passes_48 : decode cX1_passes 48 = .ok (.aload_n 0, 1) := dk_42 (dk_at dksX1_passes_2 3 rfl rfl)
theorem dX1_passes_49 : decode cX1_passes 49 = .ok (.getfield 37, 3) := dk_180 0 37 (dk_at dksX1_passes_2 4 rfl rfl)
theorem dX1_passes_52 : decode cX1_passes 52 = .ok (.iload_n 2, 1) := dk_28 (dk_at dksX1_passes_2 7 rfl rfl)
theorem dX1_passes_53 : decode cX1_passes 53 = .ok (.aaload, 1) := dk_50 (dk_at dksX1_passes_2 8 rfl rfl)
theorem dX1_passes_54 : decode cX1_passes 54 = .ok (.astore_n 3, 1) := dk_78 (dk_at dksX1_passes_2 9 rfl rfl)
theorem dX1_passes_55 : decode cX1_passes 55 = .ok (.iload_n 2, 1) := dk_28 (dk_at dksX1_passes_2 10 rfl rfl)
theorem dX1_passes_56 : decode cX1_passes 56 = .ok (.iconst 4, 1) := dk_7 (dk_at dksX1_passes_2 11 rfl rfl)
theorem dX1_passes_57 : decode cX1_passes 57 = .ok (.if_icmp .ge 17, 3) := dk_162 0 17 (dk_at dksX1_passes_2 12 rfl rfl)
theorem dX1_passes_60 : decode cX1_passes 60 = .ok (.aload_n 0, 1) := dk_42 (dk_at dksX1_passes_2 15 rfl rfl)
theorem dX1_passes_61 : decode cX1_passes 61 = .ok (.aload_n 0, 1) := dk_42 (dk_at dksX1_passes_2 16 rfl rfl)
theorem dX1_passes_62 : decode cX1_passes 62 = .ok (.getfield 19, 3) := dk_180 0 19 (dk_at dksX1_passes_2 17 rfl rfl)
theorem dX1_passes_65 : decode cX1_passes 65 = .ok (.iload_n 2, 1) := dk_28 (dk_at dksX1_passes_2 20 rfl rfl)
theorem dX1_passes_66 : decode cX1_passes 66 = .ok (.aaload, 1) := dk_50 (dk_at dksX1_passes_2 21 rfl rfl)
theorem dX1_passes_67 : decode cX1_passes 67 = .ok (.aload_n 3, 1) := dk_45 (dk_at dksX1_passes_2 22 rfl rfl)
theorem dX1_passes_68 : decode cX1_passes 68 = .ok (.invokevirtual 148, 3) := dk_182 0 148 (dk_at dksX1_passes_3 0 rfl rfl)
theorem dX1_passes_71 : decode cX1_passes 71 = .ok (.goto 16, 3) := dk_167 0 16 (dk_at dksX1_passes_3 3 rfl rfl)
theorem dX1_passes_74 : decode cX1_passes 74 = .ok (.aload_n 0, 1) := dk_42 (dk_at dksX1_passes_3 6 rfl rfl)
theorem dX1_passes_75 : decode cX1_passes 75 = .ok (.aload_n 0, 1) := dk_42 (dk_at dksX1_passes_3 7 rfl rfl)
theorem dX1_passes_76 : decode cX1_passes 76 = .ok (.getfield 31, 3) := dk_180 0 31 (dk_at dksX1_passes_3 8 rfl rfl)
theorem dX1_passes_79 : decode cX1_passes 79 = .ok (.iload_n 2, 1) := dk_28 (dk_at dksX1_passes_3 11 rfl rfl)
theorem dX1_passes_80 : decode cX1_passes 80 = .ok (.iconst 4, 1) := dk_7 (dk_at dksX1_passes_3 12 rfl rfl)
theorem dX1_passes_81 : decode cX1_passes 81 = .ok (.isub, 1) := dk_100 (dk_at dksX1_passes_3 13 rfl rfl)
theorem dX1_passes_82 : decode cX1_passes 82 = .ok (.aaload, 1) := dk_50 (dk_at dksX1_passes_3 14 rfl rfl)
theorem dX1_passes_83 : decode cX1_passes 83 = .ok (.aload_n 3, 1) := dk_45 (dk_at dksX1_passes_3 15 rfl rfl)
theorem dX1_passes_84 : decode cX1_passes 84 = .ok (.invokevirtual 152, 3) := dk_182 0 152 (dk_at dksX1_passes_3 16 rfl rfl)
theorem dX1_passes_87 : decode cX1_passes 87 = .ok (.istore 4, 2) := dk_54 4 (dk_at dksX1_passes_3 19 rfl rfl)
theorem dX1_passes_89 : decode cX1_passes 89 = .ok (.aload_n 3, 1) := dk_45 (dk_at dksX1_passes_3 21 rfl rfl)
theorem dX1_passes_90 : decode cX1_passes 90 = .ok (.iload 4, 2) := dk_21 4 (dk_at dksX1_passes_3 22 rfl rfl)
theorem dX1_passes_92 : decode cX1_passes 92 = .ok (.aload_n 0, 1) := dk_42 (dk_at dksX1_passes_4 0 rfl rfl)
theorem dX1_passes_93 : decode cX1_passes 93 = .ok (.getfield 41, 3) := dk_180 0 41 (dk_at dksX1_passes_4 1 rfl rfl)
theorem dX1_passes_96 : decode cX1_passes 96 = .ok (.iload_n 2, 1) := dk_28 (dk_at dksX1_passes_4 4 rfl rfl)
theorem dX1_passes_97 : decode cX1_passes 97 = .ok (.if_icmp .ne 7, 3) := dk_160 0 7 (dk_at dksX1_passes_4 5 rfl rfl)
theorem dX1_passes_100 : decode cX1_passes 100 = .ok (.iconst 1, 1) := dk_4 (dk_at dksX1_passes_4 8 rfl rfl)
theorem dX1_passes_101 : decode cX1_passes 101 = .ok (.goto 4, 3) := dk_167 0 4 (dk_at dksX1_passes_4 9 rfl rfl)
theorem dX1_passes_104 : decode cX1_passes 104 = .ok (.iconst 0, 1) := dk_3 (dk_at dksX1_passes_4 12 rfl rfl)
theorem dX1_passes_105 : decode cX1_passes 105 = .ok (.invokevirtual 155, 3) := dk_182 0 155 (dk_at dksX1_passes_4 13 rfl rfl)
theorem dX1_passes_108 : decode cX1_passes 108 = .ok (.iinc 2 1, 3) := dk_132 2 1 (dk_at dksX1_passes_4 16 rfl rfl)
theorem dX1_passes_111 : decode cX1_passes 111 = .ok (.goto (-69), 3) := dk_167 255 187 (dk_at dksX1_passes_4 19 rfl rfl)
theorem dX1_passes_114 : decode cX1_passes 114 = .ok (.iconst 0, 1) := dk_3 (dk_at dksX1_passes_4 22 rfl rfl)
theorem dX1_passes_115 : decode cX1_passes 115 = .ok (.istore_n 2, 1) := dk_61 (dk_at dksX1_passes_4 23 rfl rfl)
theorem dX1_passes_116 : decode cX1_passes 116 = .ok (.iload_n 2, 1) := dk_28 (dk_at dksX1_passes_5 0 rfl rfl)
theorem dX1_passes_117 : decode cX1_passes 117 = .ok (.aload_n 0, 1) := dk_42 (dk_at dksX1_passes_5 1 rfl rfl)
theorem dX1_passes_118 : decode cX1_passes 118 = .ok (.getfield 50, 3) := dk_180 0 50 (dk_at dksX1_passes_5 2 rfl rfl)
theorem dX1_passes_121 : decode cX1_passes 121 = .ok (.if_icmp .ge 22, 3) := dk_162 0 22 (dk_at dksX1_passes_5 5 rfl rfl)
theorem dX1_passes_124 : decode cX1_passes 124 = .ok (.aload_n 0, 1) := dk_42 (dk_at dksX1_passes_5 8 rfl rfl)
theorem dX1_passes_125 : decode cX1_passes 125 = .ok (.getfield 11, 3) := dk_180 0 11 (dk_at dksX1_passes_5 9 rfl rfl)
theorem dX1_passes_128 : decode cX1_passes 128 = .ok (.iload_n 2, 1) := dk_28 (dk_at dksX1_passes_5 12 rfl rfl)
theorem dX1_passes_129 : decode cX1_passes 129 = .ok (.aaload, 1) := dk_50 (dk_at dksX1_passes_5 13 rfl rfl)
theorem dX1_passes_130 : decode cX1_passes 130 = .ok (.aload_n 0, 1) := dk_42 (dk_at dksX1_passes_5 14 rfl rfl)
theorem dX1_passes_131 : decode cX1_passes 131 = .ok (.getfield 53, 3) := dk_180 0 53 (dk_at dksX1_passes_5 15 rfl rfl)
theorem dX1_passes_134 : decode cX1_passes 134 = .ok (.invokevirtual 159, 3) := dk_182 0 159 (dk_at dksX1_passes_5 18 rfl rfl)
theorem dX1_passes_137 : decode cX1_passes 137 = .ok (.iinc 2 1, 3) := dk_132 2 1 (dk_at dksX1_passes_5 21 rfl rfl)
theorem dX1_passes_140 : decode cX1_passes 140 = .ok (.goto (-24), 3) := dk_167 255 232 (dk_at dksX1_passes_6 0 rfl rfl)
theorem dX1_passes_143 : decode cX1_passes 143 = .ok (.aload_n 0, 1) := dk_42 (dk_at dksX1_passes_6 3 rfl rfl)
theorem dX1_passes_144 : decode cX1_passes 144 = .ok (.dup, 1) := dk_89 (dk_at dksX1_passes_6 4 rfl rfl)
theorem dX1_passes_145 : decode cX1_passes 145 = .ok (.getfield 53, 3) := dk_180 0 53 (dk_at dksX1_passes_6 5 rfl rfl)
theorem dX1_passes_148 : decode cX1_passes 148 = .ok (.iconst 1, 1) := dk_4 (dk_at dksX1_passes_6 8 rfl rfl)
theorem dX1_passes_149 : decode cX1_passes 149 = .ok (.iadd, 1) := dk_96 (dk_at dksX1_passes_6 9 rfl rfl)
theorem dX1_passes_150 : decode cX1_passes 150 = .ok (.putfield 53, 3) := dk_181 0 53 (dk_at dksX1_passes_6 10 rfl rfl)
theorem dX1_passes_153 : decode cX1_passes 153 = .ok (.iload_n 1, 1) := dk_27 (dk_at dksX1_passes_6 13 rfl rfl)
theorem dX1_passes_154 : decode cX1_passes 154 = .ok (.ireturn, 1) := dk_172 (dk_at dksX1_passes_6 14 rfl rfl)
def dkwX1_threshes_4 : List UInt8 := [181, 0, 130, 29, 172]
abbrev dktX1_threshes_4 : List UInt8 := dkwX1_threshes_4 ++ []
def dkwX1_threshes_3 : List UInt8 := [184, 0, 109, 104, 96, 181, 0, 124, 44, 89, 180, 0, 130, 29, 43, 180, 0, 113, 184, 0, 109, 104, 96]
abbrev dktX1_threshes_3 : List UInt8 := dkwX1_threshes_3 ++ dktX1_threshes_4
def dkwX1_threshes_2 : List UInt8 := [181, 0, 117, 43, 89, 180, 0, 127, 29, 96, 181, 0, 127, 44, 89, 180, 0, 124, 29, 43, 180, 0, 113]
abbrev dktX1_threshes_2 : List UInt8 := dkwX1_threshes_2 ++ dktX1_threshes_3
def dkwX1_threshes_1 : List UInt8 := [44, 180, 0, 124, 100, 43, 180, 0, 113, 184, 0, 109, 108, 184, 0, 118, 62, 43, 89, 180, 0, 117, 29, 100]
abbrev dktX1_threshes_1 : List UInt8 := dkwX1_threshes_1 ++ dktX1_threshes_2
def dkwX1_threshes_0 : List UInt8 := [42, 180, 0, 31, 43, 180, 0, 113, 50, 77, 43, 180, 0, 114, 43, 180, 0, 117, 184, 0, 118, 17, 7, 208]
abbrev dktX1_threshes_0 : List UInt8 := dkwX1_threshes_0 ++ dktX1_threshes_1
theorem dksX1_threshes_0 : cX1_threshes.data.toList.drop 0 = dktX1_threshes_0 := by decide +kernel
theorem dksX1_threshes_1 : cX1_threshes.data.toList.drop 24 = dktX1_threshes_1 := dk_seg dksX1_threshes_0 24 rfl rfl
theorem dksX1_threshes_2 : cX1_threshes.data.toList.drop 48 = dktX1_threshes_2 := dk_seg dksX1_threshes_1 24 rfl rfl
theorem dksX1_threshes_3 : cX1_threshes.data.toList.drop 71 = dktX1_threshes_3 := dk_seg dksX1_threshes_2 23 rfl rfl
theorem dksX1_threshes_4 : cX1_threshes.data.toList.drop 94 = dktX1_threshes_4 := dk_seg dksX1_threshes_3 23 rfl rfl
theorem dX1_threshes_0 : decode cX1_threshes 0 = .ok (.aload_n 0, 1) := dk_42 (dk_at dksX1_threshes_0 0 rfl rfl)
theorem dX1_threshes_1 : decode cX1_threshes 1 = .ok (.getfield 31, 3) := dk_180 0 31 (dk_at dksX1_threshes_0 1 rfl rfl)
theorem dX1_threshes_4 : decode cX1_threshes 4 = .ok (.aload_n 1, 1) := dk_43 (dk_at dksX1_threshes_0 4 rfl rfl)
theorem dX1_threshes_5 : decode cX1_threshes 5 = .ok (.getfield 113, 3) := dk_180 0 113 (dk_at dksX1_threshes_0 5 rfl rfl)
theorem dX1_threshes_8 : decode cX1_threshes 8 = .ok (.aaload, 1) := dk_50 (dk_at dksX1_threshes_0 8 rfl rfl)
theorem dX1_threshes_9 : decode cX1_threshes 9 = .ok (.astore_n 2, 1) := dk_77 (dk_at dksX1_threshes_0 9 rfl rfl)
theorem dX1_threshes_10 : decode cX1_threshes 10 = .ok (.aload_n 1, 1) := dk_43 (dk_at dksX1_threshes_0 10 rfl rfl)
theorem dX1_threshes_11 : decode cX1_threshes 11 = .ok (.getfield 114, 3) := dk_180 0 114 (dk_at dksX1_threshes_0 11 rfl rfl)
theorem dX1_threshes_14 : decode cX1_threshes 14 = .ok (.aload_n 1, 1) := dk_43 (dk_at dksX1_threshes_0 14 rfl rfl)
theorem dX1_threshes_15 : decode cX1_threshes 15 = .ok (.getfield 117, 3) := dk_180 0 117 (dk_at dksX1_threshes_0 15 rfl rfl)
theorem dX1_threshes_18 : decode cX1_threshes 18 = .ok (.invokestatic 118, 3) := dk_184 0 118 (dk_at dksX1_threshes_0 18 rfl rfl)
theorem dX1_threshes_21 : decode cX1_threshes 21 = .ok (.sipush 2000, 3) := dk_17 7 208 (dk_at dksX1_threshes_0 21 rfl rfl)
theorem dX1_threshes_24 : decode cX1_threshes 24 = .ok (.aload_n 2, 1) := dk_44 (dk_at dksX1_threshes_1 0 rfl rfl)
theorem dX1_threshes_25 : decode cX1_threshes 25 = .ok (.getfield 124, 3) := dk_180 0 124 (dk_at dksX1_threshes_1 1 rfl rfl)
theorem dX1_threshes_28 : decode cX1_threshes 28 = .ok (.isub, 1) := dk_100 (dk_at dksX1_threshes_1 4 rfl rfl)
theorem dX1_threshes_29 : decode cX1_threshes 29 = .ok (.aload_n 1, 1) := dk_43 (dk_at dksX1_threshes_1 5 rfl rfl)
theorem dX1_threshes_30 : decode cX1_threshes 30 = .ok (.getfield 113, 3) := dk_180 0 113 (dk_at dksX1_threshes_1 6 rfl rfl)
theorem dX1_threshes_33 : decode cX1_threshes 33 = .ok (.invokestatic 109, 3) := dk_184 0 109 (dk_at dksX1_threshes_1 9 rfl rfl)
theorem dX1_threshes_36 : decode cX1_threshes 36 = .ok (.idiv, 1) := dk_108 (dk_at dksX1_threshes_1 12 rfl rfl)
theorem dX1_threshes_37 : decode cX1_threshes 37 = .ok (.invokestatic 118, 3) := dk_184 0 118 (dk_at dksX1_threshes_1 13 rfl rfl)
theorem dX1_threshes_40 : decode cX1_threshes 40 = .ok (.istore_n 3, 1) := dk_62 (dk_at dksX1_threshes_1 16 rfl rfl)
theorem dX1_threshes_41 : decode cX1_threshes 41 = .ok (.aload_n 1, 1) := dk_43 (dk_at dksX1_threshes_1 17 rfl rfl)
theorem dX1_threshes_42 : decode cX1_threshes 42 = .ok (.dup, 1) := dk_89 (dk_at dksX1_threshes_1 18 rfl rfl)
theorem dX1_threshes_43 : decode cX1_threshes 43 = .ok (.getfield 117, 3) := dk_180 0 117 (dk_at dksX1_threshes_1 19 rfl rfl)
theorem dX1_threshes_46 : decode cX1_threshes 46 = .ok (.iload_n 3, 1) := dk_29 (dk_at dksX1_threshes_1 22 rfl rfl)
theorem dX1_threshes_47 : decode cX1_threshes 47 = .ok (.isub, 1) := dk_100 (dk_at dksX1_threshes_1 23 rfl rfl)
theorem dX1_threshes_48 : decode cX1_threshes 48 = .ok (.putfield 117, 3) := dk_181 0 117 (dk_at dksX1_threshes_2 0 rfl rfl)
theorem dX1_threshes_51 : decode cX1_threshes 51 = .ok (.aload_n 1, 1) := dk_43 (dk_at dksX1_threshes_2 3 rfl rfl)
theorem dX1_threshes_52 : decode cX1_threshes 52 = .ok (.dup, 1) := dk_89 (dk_at dksX1_threshes_2 4 rfl rfl)
theorem dX1_threshes_53 : decode cX1_threshes 53 = .ok (.getfield 127, 3) := dk_180 0 127 (dk_at dksX1_threshes_2 5 rfl rfl)
theorem dX1_threshes_56 : decode cX1_threshes 56 = .ok (.iload_n 3, 1) := dk_29 (dk_at dksX1_threshes_2 8 rfl rfl)
theorem dX1_threshes_57 : decode cX1_threshes 57 = .ok (.iadd, 1) := dk_96 (dk_at dksX1_threshes_2 9 rfl rfl)
theorem dX1_threshes_58 : decode cX1_threshes 58 = .ok (.putfield 127, 3) := dk_181 0 127 (dk_at dksX1_threshes_2 10 rfl rfl)
theorem dX1_threshes_61 : decode cX1_threshes 61 = .ok (.aload_n 2, 1) := dk_44 (dk_at dksX1_threshes_2 13 rfl rfl)
theorem dX1_threshes_62 : decode cX1_threshes 62 = .ok (.dup, 1) := dk_89 (dk_at dksX1_threshes_2 14 rfl rfl)
theorem dX1_threshes_63 : decode cX1_threshes 63 = .ok (.getfield 124, 3) := dk_180 0 124 (dk_at dksX1_threshes_2 15 rfl rfl)
theorem dX1_threshes_66 : decode cX1_threshes 66 = .ok (.iload_n 3, 1) := dk_29 (dk_at dksX1_threshes_2 18 rfl rfl)
theorem dX1_threshes_67 : decode cX1_threshes 67 = .ok (.aload_n 1, 1) := dk_43 (dk_at dksX1_threshes_2 19 rfl rfl)
theorem dX1_threshes_68 : decode cX1_threshes 68 = .ok (.getfield 113, 3) := dk_180 0 113 (dk_at dksX1_threshes_2 20 rfl rfl)
theorem dX1_threshes_71 : decode cX1_threshes 71 = .ok (.invokestatic 109, 3) := dk_184 0 109 (dk_at dksX1_threshes_3 0 rfl rfl)
theorem dX1_threshes_74 : decode cX1_threshes 74 = .ok (.imul, 1) := dk_104 (dk_at dksX1_threshes_3 3 rfl rfl)
theorem dX1_threshes_75 : decode cX1_threshes 75 = .ok (.iadd, 1) := dk_96 (dk_at dksX1_threshes_3 4 rfl rfl)
theorem dX1_threshes_76 : decode cX1_threshes 76 = .ok (.putfield 124, 3) := dk_181 0 124 (dk_at dksX1_threshes_3 5 rfl rfl)
theorem dX1_threshes_79 : decode cX1_threshes 79 = .ok (.aload_n 2, 1) := dk_44 (dk_at dksX1_threshes_3 8 rfl rfl)
theorem dX1_threshes_80 : decode cX1_threshes 80 = .ok (.dup, 1) := dk_89 (dk_at dksX1_threshes_3 9 rfl rfl)
theorem dX1_threshes_81 : decode cX1_threshes 81 = .ok (.getfield 130, 3) := dk_180 0 130 (dk_at dksX1_threshes_3 10 rfl rfl)
theorem dX1_threshes_84 : decode cX1_threshes 84 = .ok (.iload_n 3, 1) := dk_29 (dk_at dksX1_threshes_3 13 rfl rfl)
theorem dX1_threshes_85 : decode cX1_threshes 85 = .ok (.aload_n 1, 1) := dk_43 (dk_at dksX1_threshes_3 14 rfl rfl)
theorem dX1_threshes_86 : decode cX1_threshes 86 = .ok (.getfield 113, 3) := dk_180 0 113 (dk_at dksX1_threshes_3 15 rfl rfl)
theorem dX1_threshes_89 : decode cX1_threshes 89 = .ok (.invokestatic 109, 3) := dk_184 0 109 (dk_at dksX1_threshes_3 18 rfl rfl)
theorem dX1_threshes_92 : decode cX1_threshes 92 = .ok (.imul, 1) := dk_104 (dk_at dksX1_threshes_3 21 rfl rfl)
theorem dX1_threshes_93 : decode cX1_threshes 93 = .ok (.iadd, 1) := dk_96 (dk_at dksX1_threshes_3 22 rfl rfl)
theorem dX1_threshes_94 : decode cX1_threshes 94 = .ok (.putfield 130, 3) := dk_181 0 130 (dk_at dksX1_threshes_4 0 rfl rfl)
theorem dX1_threshes_97 : decode cX1_threshes 97 = .ok (.iload_n 3, 1) := dk_29 (dk_at dksX1_threshes_4 3 rfl rfl)
theorem dX1_threshes_98 : decode cX1_threshes 98 = .ok (.ireturn, 1) := dk_172 (dk_at dksX1_threshes_4 4 rfl rfl)
def dkwX1_isLeftIn_3 : List UInt8 := [158, 0, 7, 4, 167, 0, 4, 3, 172]
abbrev dktX1_isLeftIn_3 : List UInt8 := dkwX1_isLeftIn_3 ++ []
def dkwX1_isLeftIn_2 : List UInt8 := [182, 0, 140, 50, 180, 0, 106, 184, 0, 109, 96, 181, 0, 59, 132, 4, 1, 167, 255, 223, 43, 180, 0, 136]
abbrev dktX1_isLeftIn_2 : List UInt8 := dkwX1_isLeftIn_2 ++ dktX1_isLeftIn_3
def dkwX1_isLeftIn_1 : List UInt8 := [181, 0, 137, 3, 54, 4, 21, 4, 29, 162, 0, 33, 42, 89, 180, 0, 59, 42, 180, 0, 11, 43]
abbrev dktX1_isLeftIn_1 : List UInt8 := dkwX1_isLeftIn_1 ++ dktX1_isLeftIn_2
def dkwX1_isLeftIn_0 : List UInt8 := [44, 180, 0, 133, 16, 10, 108, 43, 180, 0, 136, 184, 0, 118, 62, 44, 89, 180, 0, 137, 29, 96]
abbrev dktX1_isLeftIn_0 : List UInt8 := dkwX1_isLeftIn_0 ++ dktX1_isLeftIn_1
theorem dksX1_isLeftIn_0 : cX1_isLeftIn.data.toList.drop 0 = dktX1_isLeftIn_0 := by decide +kernel
theorem dksX1_isLeftIn_1 : cX1_isLeftIn.data.toList.drop 22 = dktX1_isLeftIn_1 := dk_seg dksX1_isLeftIn_0 22 rfl rfl
theorem dksX1_isLeftIn_2 : cX1_isLeftIn.data.toList.drop 44 = dktX1_isLeftIn_2 := dk_seg dksX1_isLeftIn_1 22 rfl rfl
theorem dksX1_isLeftIn_3 : cX1_isLeftIn.data.toList.drop 68 = dktX1_isLeftIn_3 := dk_seg dksX1_isLeftIn_2 24 rfl rfl
theorem dX1_isLeftIn_0 : decode cX1_isLeftIn 0 = .ok (.aload_n 2, 1) := dk_44 (dk_at dksX1_isLeftIn_0 0 rfl rfl)
theorem dX1_isLeftIn_1 : decode cX1_isLeftIn 1 = .ok (.getfield 133, 3) := dk_180 0 133 (dk_at dksX1_isLeftIn_0 1 rfl rfl)
theorem dX1_isLeftIn_4 : decode cX1_isLeftIn 4 = .ok (.bipush 10, 2) := dk_16 10 (dk_at dksX1_isLeftIn_0 4 rfl rfl)
theorem dX1_isLeftIn_6 : decode cX1_isLeftIn 6 = .ok (.idiv, 1) := dk_108 (dk_at dksX1_isLeftIn_0 6 rfl rfl)
theorem dX1_isLeftIn_7 : decode cX1_isLeftIn 7 = .ok (.aload_n 1, 1) := dk_43 (dk_at dksX1_isLeftIn_0 7 rfl rfl)
theorem dX1_isLeftIn_8 : decode cX1_isLeftIn 8 = .ok (.getfield 136, 3) := dk_180 0 136 (dk_at dksX1_isLeftIn_0 8 rfl rfl)
theorem dX1_isLeftIn_11 : decode cX1_isLeftIn 11 = .ok (.invokestatic 118, 3) := dk_184 0 118 (dk_at dksX1_isLeftIn_0 11 rfl rfl)
theorem dX1_isLeftIn_14 : decode cX1_isLeftIn 14 = .ok (.istore_n 3, 1) := dk_62 (dk_at dksX1_isLeftIn_0 14 rfl rfl)
theorem dX1_isLeftIn_15 : decode cX1_isLeftIn 15 = .ok (.aload_n 2, 1) := dk_44 (dk_at dksX1_isLeftIn_0 15 rfl rfl)
theorem dX1_isLeftIn_16 : decode cX1_isLeftIn 16 = .ok (.dup, 1) := dk_89 (dk_at dksX1_isLeftIn_0 16 rfl rfl)
theorem dX1_isLeftIn_17 : decode cX1_isLeftIn 17 = .ok (.getfield 137, 3) := dk_180 0 137 (dk_at dksX1_isLeftIn_0 17 rfl rfl)
theorem dX1_isLeftIn_20 : decode cX1_isLeftIn 20 = .ok (.iload_n 3, 1) := dk_29 (dk_at dksX1_isLeftIn_0 20 rfl rfl)
theorem dX1_isLeftIn_21 : decode cX1_isLeftIn 21 = .ok (.iadd, 1) := dk_96 (dk_at dksX1_isLeftIn_0 21 rfl rfl)
theorem dX1_isLeftIn_22 : decode cX1_isLeftIn 22 = .ok (.putfield 137, 3) := dk_181 0 137 (dk_at dksX1_isLeftIn_1 0 rfl rfl)
theorem dX1_isLeftIn_25 : decode cX1_isLeftIn 25 = .ok (.iconst 0, 1) := dk_3 (dk_at dksX1_isLeftIn_1 3 rfl rfl)
theorem dX1_isLeftIn_26 : decode cX1_isLeftIn 26 = .ok (.istore 4, 2) := dk_54 4 (dk_at dksX1_isLeftIn_1 4 rfl rfl)
theorem dX1_isLeftIn_28 : decode cX1_isLeftIn 28 = .ok (.iload 4, 2) := dk_21 4 (dk_at dksX1_isLeftIn_1 6 rfl rfl)
theorem dX1_isLeftIn_30 : decode cX1_isLeftIn 30 = .ok (.iload_n 3, 1) := dk_29 (dk_at dksX1_isLeftIn_1 8 rfl rfl)
theorem dX1_isLeftIn_31 : decode cX1_isLeftIn 31 = .ok (.if_icmp .ge 33, 3) := dk_162 0 33 (dk_at dksX1_isLeftIn_1 9 rfl rfl)
theorem dX1_isLeftIn_34 : decode cX1_isLeftIn 34 = .ok (.aload_n 0, 1) := dk_42 (dk_at dksX1_isLeftIn_1 12 rfl rfl)
theorem dX1_isLeftIn_35 : decode cX1_isLeftIn 35 = .ok (.dup, 1) := dk_89 (dk_at dksX1_isLeftIn_1 13 rfl rfl)
theorem dX1_isLeftIn_36 : decode cX1_isLeftIn 36 = .ok (.getfield 59, 3) := dk_180 0 59 (dk_at dksX1_isLeftIn_1 14 rfl rfl)
theorem dX1_isLeftIn_39 : decode cX1_isLeftIn 39 = .ok (.aload_n 0, 1) := dk_42 (dk_at dksX1_isLeftIn_1 17 rfl rfl)
theorem dX1_isLeftIn_40 : decode cX1_isLeftIn 40 = .ok (.getfield 11, 3) := dk_180 0 11 (dk_at dksX1_isLeftIn_1 18 rfl rfl)
theorem dX1_isLeftIn_43 : decode cX1_isLeftIn 43 = .ok (.aload_n 1, 1) := dk_43 (dk_at dksX1_isLeftIn_1 21 rfl rfl)
theorem dX1_isLeftIn_44 : decode cX1_isLeftIn 44 = .ok (.invokevirtual 140, 3) := dk_182 0 140 (dk_at dksX1_isLeftIn_2 0 rfl rfl)
theorem dX1_isLeftIn_47 : decode cX1_isLeftIn 47 = .ok (.aaload, 1) := dk_50 (dk_at dksX1_isLeftIn_2 3 rfl rfl)
theorem dX1_isLeftIn_48 : decode cX1_isLeftIn 48 = .ok (.getfield 106, 3) := dk_180 0 106 (dk_at dksX1_isLeftIn_2 4 rfl rfl)
theorem dX1_isLeftIn_51 : decode cX1_isLeftIn 51 = .ok (.invokestatic 109, 3) := dk_184 0 109 (dk_at dksX1_isLeftIn_2 7 rfl rfl)
theorem dX1_isLeftIn_54 : decode cX1_isLeftIn 54 = .ok (.iadd, 1) := dk_96 (dk_at dksX1_isLeftIn_2 10 rfl rfl)
theorem dX1_isLeftIn_55 : decode cX1_isLeftIn 55 = .ok (.putfield 59, 3) := dk_181 0 59 (dk_at dksX1_isLeftIn_2 11 rfl rfl)
theorem dX1_isLeftIn_58 : decode cX1_isLeftIn 58 = .ok (.iinc 4 1, 3) := dk_132 4 1 (dk_at dksX1_isLeftIn_2 14 rfl rfl)
theorem dX1_isLeftIn_61 : decode cX1_isLeftIn 61 = .ok (.goto (-33), 3) := dk_167 255 223 (dk_at dksX1_isLeftIn_2 17 rfl rfl)
theorem dX1_isLeftIn_64 : decode cX1_isLeftIn 64 = .ok (.aload_n 1, 1) := dk_43 (dk_at dksX1_isLeftIn_2 20 rfl rfl)
theorem dX1_isLeftIn_65 : decode cX1_isLeftIn 65 = .ok (.getfield 136, 3) := dk_180 0 136 (dk_at dksX1_isLeftIn_2 21 rfl rfl)
theorem dX1_isLeftIn_68 : decode cX1_isLeftIn 68 = .ok (.ifCond .le 7, 3) := dk_158 0 7 (dk_at dksX1_isLeftIn_3 0 rfl rfl)
theorem dX1_isLeftIn_71 : decode cX1_isLeftIn 71 = .ok (.iconst 1, 1) := dk_4 (dk_at dksX1_isLeftIn_3 3 rfl rfl)
theorem dX1_isLeftIn_72 : decode cX1_isLeftIn 72 = .ok (.goto 4, 3) := dk_167 0 4 (dk_at dksX1_isLeftIn_3 4 rfl rfl)
theorem dX1_isLeftIn_75 : decode cX1_isLeftIn 75 = .ok (.iconst 0, 1) := dk_3 (dk_at dksX1_isLeftIn_3 7 rfl rfl)
theorem dX1_isLeftIn_76 : decode cX1_isLeftIn 76 = .ok (.ireturn, 1) := dk_172 (dk_at dksX1_isLeftIn_3 8 rfl rfl)
def dkwX1_isLeftIn_2_2 : List UInt8 := [158, 0, 7, 4, 167, 0, 4, 3, 172]
abbrev dktX1_isLeftIn_2_2 : List UInt8 := dkwX1_isLeftIn_2_2 ++ []
def dkwX1_isLeftIn_2_1 : List UInt8 := [180, 0, 59, 29, 96, 181, 0, 59, 43, 89, 180, 0, 124, 29, 100, 181, 0, 124, 43, 180, 0, 124]
abbrev dktX1_isLeftIn_2_1 : List UInt8 := dkwX1_isLeftIn_2_1 ++ dktX1_isLeftIn_2_2
def dkwX1_isLeftIn_2_0 : List UInt8 := [44, 180, 0, 133, 43, 180, 0, 124, 184, 0, 118, 62, 44, 89, 180, 0, 137, 29, 96, 181, 0, 137, 42, 89]
abbrev dktX1_isLeftIn_2_0 : List UInt8 := dkwX1_isLeftIn_2_0 ++ dktX1_isLeftIn_2_1
theorem dksX1_isLeftIn_2_0 : cX1_isLeftIn_2.data.toList.drop 0 = dktX1_isLeftIn_2_0 := by decide +kernel
theorem dksX1_isLeftIn_2_1 : cX1_isLeftIn_2.data.toList.drop 24 = dktX1_isLeftIn_2_1 := dk_seg dksX1_isLeftIn_2_0 24 rfl rfl
theorem dksX1_isLeftIn_2_2 : cX1_isLeftIn_2.data.toList.drop 46 = dktX1_isLeftIn_2_2 := dk_seg dksX1_isLeftIn_2_1 22 rfl rfl
theorem dX1_isLeftIn_2_0 : decode cX1_isLeftIn_2 0 = .ok (.aload_n 2, 1) := dk_44 (dk_at dksX1_isLeftIn_2_0 0 rfl rfl)
theorem dX1_isLeftIn_2_1 : decode cX1_isLeftIn_2 1 = .ok (.getfield 133, 3) := dk_180 0 133 (dk_at dksX1_isLeftIn_2_0 1 rfl rfl)
theorem dX1_isLeftIn_2_4 : decode cX1_isLeftIn_2 4 = .ok (.aload_n 1, 1) := dk_43 (dk_at dksX1_isLeftIn_2_0 4 rfl rfl)
theorem dX1_isLeftIn_2_5 : decode cX1_isLeftIn_2 5 = .ok (.getfield 124, 3) := dk_180 0 124 (dk_at dksX1_isLeftIn_2_0 5 rfl rfl)
theorem dX1_isLeftIn_2_8 : decode cX1_isLeftIn_2 8 = .ok (.invokestatic 118, 3) := dk_184 0 118 (dk_at dksX1_isLeftIn_2_0 8 rfl rfl)
theorem dX1_isLeftIn_2_11 : decode cX1_isLeftIn_2 11 = .ok (.istore_n 3, 1) := dk_62 (dk_at dksX1_isLeftIn_2_0 11 rfl rfl)
theorem dX1_isLeftIn_2_12 : decode cX1_isLeftIn_2 12 = .ok (.aload_n 2, 1) := dk_44 (dk_at dksX1_isLeftIn_2_0 12 rfl rfl)
theorem dX1_isLeftIn_2_13 : decode cX1_isLeftIn_2 13 = .ok (.dup, 1) := dk_89 (dk_at dksX1_isLeftIn_2_0 13 rfl rfl)
theorem dX1_isLeftIn_2_14 : decode cX1_isLeftIn_2 14 = .ok (.getfield 137, 3) := dk_180 0 137 (dk_at dksX1_isLeftIn_2_0 14 rfl rfl)
theorem dX1_isLeftIn_2_17 : decode cX1_isLeftIn_2 17 = .ok (.iload_n 3, 1) := dk_29 (dk_at dksX1_isLeftIn_2_0 17 rfl rfl)
theorem dX1_isLeftIn_2_18 : decode cX1_isLeftIn_2 18 = .ok (.iadd, 1) := dk_96 (dk_at dksX1_isLeftIn_2_0 18 rfl rfl)
theorem dX1_isLeftIn_2_19 : decode cX1_isLeftIn_2 19 = .ok (.putfield 137, 3) := dk_181 0 137 (dk_at dksX1_isLeftIn_2_0 19 rfl rfl)
theorem dX1_isLeftIn_2_22 : decode cX1_isLeftIn_2 22 = .ok (.aload_n 0, 1) := dk_42 (dk_at dksX1_isLeftIn_2_0 22 rfl rfl)
theorem dX1_isLeftIn_2_23 : decode cX1_isLeftIn_2 23 = .ok (.dup, 1) := dk_89 (dk_at dksX1_isLeftIn_2_0 23 rfl rfl)
theorem dX1_isLeftIn_2_24 : decode cX1_isLeftIn_2 24 = .ok (.getfield 59, 3) := dk_180 0 59 (dk_at dksX1_isLeftIn_2_1 0 rfl rfl)
theorem dX1_isLeftIn_2_27 : decode cX1_isLeftIn_2 27 = .ok (.iload_n 3, 1) := dk_29 (dk_at dksX1_isLeftIn_2_1 3 rfl rfl)
theorem dX1_isLeftIn_2_28 : decode cX1_isLeftIn_2 28 = .ok (.iadd, 1) := dk_96 (dk_at dksX1_isLeftIn_2_1 4 rfl rfl)
theorem dX1_isLeftIn_2_29 : decode cX1_isLeftIn_2 29 = .ok (.putfield 59, 3) := dk_181 0 59 (dk_at dksX1_isLeftIn_2_1 5 rfl rfl)
theorem dX1_isLeftIn_2_32 : decode cX1_isLeftIn_2 32 = .ok (.aload_n 1, 1) := dk_43 (dk_at dksX1_isLeftIn_2_1 8 rfl rfl)
theorem dX1_isLeftIn_2_33 : decode cX1_isLeftIn_2 33 = .ok (.dup, 1) := dk_89 (dk_at dksX1_isLeftIn_2_1 9 rfl rfl)
theorem dX1_isLeftIn_2_34 : decode cX1_isLeftIn_2 34 = .ok (.getfield 124, 3) := dk_180 0 124 (dk_at dksX1_isLeftIn_2_1 10 rfl rfl)
theorem dX1_isLeftIn_2_37 : decode cX1_isLeftIn_2 37 = .ok (.iload_n 3, 1) := dk_29 (dk_at dksX1_isLeftIn_2_1 13 rfl rfl)
theorem dX1_isLeftIn_2_38 : decode cX1_isLeftIn_2 38 = .ok (.isub, 1) := dk_100 (dk_at dksX1_isLeftIn_2_1 14 rfl rfl)
theorem dX1_isLeftIn_2_39 : decode cX1_isLeftIn_2 39 = .ok (.putfield 124, 3) := dk_181 0 124 (dk_at dksX1_isLeftIn_2_1 15 rfl rfl)
theorem dX1_isLeftIn_2_42 : decode cX1_isLeftIn_2 42 = .ok (.aload_n 1, 1) := dk_43 (dk_at dksX1_isLeftIn_2_1 18 rfl rfl)
theorem dX1_isLeftIn_2_43 : decode cX1_isLeftIn_2 43 = .ok (.getfield 124, 3) := dk_180 0 124 (dk_at dksX1_isLeftIn_2_1 19 rfl rfl)
theorem dX1_isLeftIn_2_46 : decode cX1_isLeftIn_2 46 = .ok (.ifCond .le 7, 3) := dk_158 0 7 (dk_at dksX1_isLeftIn_2_2 0 rfl rfl)
theorem dX1_isLeftIn_2_49 : decode cX1_isLeftIn_2 49 = .ok (.iconst 1, 1) := dk_4 (dk_at dksX1_isLeftIn_2_2 3 rfl rfl)
theorem dX1_isLeftIn_2_50 : decode cX1_isLeftIn_2 50 = .ok (.goto 4, 3) := dk_167 0 4 (dk_at dksX1_isLeftIn_2_2 4 rfl rfl)
theorem dX1_isLeftIn_2_53 : decode cX1_isLeftIn_2 53 = .ok (.iconst 0, 1) := dk_3 (dk_at dksX1_isLeftIn_2_2 7 rfl rfl)
theorem dX1_isLeftIn_2_54 : decode cX1_isLeftIn_2 54 = .ok (.ireturn, 1) := dk_172 (dk_at dksX1_isLeftIn_2_2 8 rfl rfl)
def dkwX1_pintsIn_2 : List UInt8 := [184, 0, 109, 104, 96, 61, 167, 255, 211, 28, 172]
abbrev dktX1_pintsIn_2 : List UInt8 := dkwX1_pintsIn_2 ++ []
def dkwX1_pintsIn_1 : List UInt8 := [192, 0, 98, 58, 4, 28, 25, 4, 180, 0, 100, 42, 180, 0, 11, 25, 4, 180, 0, 103, 50, 180, 0, 106]
abbrev dktX1_pintsIn_1 : List UInt8 := dkwX1_pintsIn_1 ++ dktX1_pintsIn_2
def dkwX1_pintsIn_0 : List UInt8 := [3, 61, 43, 182, 0, 84, 78, 45, 185, 0, 88, 1, 0, 153, 0, 42, 45, 185, 0, 94, 1, 0]
abbrev dktX1_pintsIn_0 : List UInt8 := dkwX1_pintsIn_0 ++ dktX1_pintsIn_1
theorem dksX1_pintsIn_0 : cX1_pintsIn.data.toList.drop 0 = dktX1_pintsIn_0 := by decide +kernel
theorem dksX1_pintsIn_1 : cX1_pintsIn.data.toList.drop 22 = dktX1_pintsIn_1 := dk_seg dksX1_pintsIn_0 22 rfl rfl
theorem dksX1_pintsIn_2 : cX1_pintsIn.data.toList.drop 46 = dktX1_pintsIn_2 := dk_seg dksX1_pintsIn_1 24 rfl rfl
theorem dX1_pintsIn_0 : decode cX1_pintsIn 0 = .ok (.iconst 0, 1) := dk_3 (dk_at dksX1_pintsIn_0 0 rfl rfl)
theorem dX1_pintsIn_1 : decode cX1_pintsIn 1 = .ok (.istore_n 2, 1) := dk_61 (dk_at dksX1_pintsIn_0 1 rfl rfl)
theorem dX1_pintsIn_2 : decode cX1_pintsIn 2 = .ok (.aload_n 1, 1) := dk_43 (dk_at dksX1_pintsIn_0 2 rfl rfl)
theorem dX1_pintsIn_3 : decode cX1_pintsIn 3 = .ok (.invokevirtual 84, 3) := dk_182 0 84 (dk_at dksX1_pintsIn_0 3 rfl rfl)
theorem dX1_pintsIn_6 : decode cX1_pintsIn 6 = .ok (.astore_n 3, 1) := dk_78 (dk_at dksX1_pintsIn_0 6 rfl rfl)
theorem dX1_pintsIn_7 : decode cX1_pintsIn 7 = .ok (.aload_n 3, 1) := dk_45 (dk_at dksX1_pintsIn_0 7 rfl rfl)
theorem dX1_pintsIn_8 : decode cX1_pintsIn 8 = .ok (.invokeinterface 88 1, 5) := by decide +kernel
theorem dX1_pintsIn_13 : decode cX1_pintsIn 13 = .ok (.ifCond .eq 42, 3) := dk_153 0 42 (dk_at dksX1_pintsIn_0 13 rfl rfl)
theorem dX1_pintsIn_16 : decode cX1_pintsIn 16 = .ok (.aload_n 3, 1) := dk_45 (dk_at dksX1_pintsIn_0 16 rfl rfl)
theorem dX1_pintsIn_17 : decode cX1_pintsIn 17 = .ok (.invokeinterface 94 1, 5) := by decide +kernel
theorem dX1_pintsIn_22 : decode cX1_pintsIn 22 = .ok (.checkcast 98, 3) := dk_192 0 98 (dk_at dksX1_pintsIn_1 0 rfl rfl)
theorem dX1_pintsIn_25 : decode cX1_pintsIn 25 = .ok (.astore 4, 2) := dk_58 4 (dk_at dksX1_pintsIn_1 3 rfl rfl)
theorem dX1_pintsIn_27 : decode cX1_pintsIn 27 = .ok (.iload_n 2, 1) := dk_28 (dk_at dksX1_pintsIn_1 5 rfl rfl)
theorem dX1_pintsIn_28 : decode cX1_pintsIn 28 = .ok (.aload 4, 2) := dk_25 4 (dk_at dksX1_pintsIn_1 6 rfl rfl)
theorem dX1_pintsIn_30 : decode cX1_pintsIn 30 = .ok (.getfield 100, 3) := dk_180 0 100 (dk_at dksX1_pintsIn_1 8 rfl rfl)
theorem dX1_pintsIn_33 : decode cX1_pintsIn 33 = .ok (.aload_n 0, 1) := dk_42 (dk_at dksX1_pintsIn_1 11 rfl rfl)
theorem dX1_pintsIn_34 : decode cX1_pintsIn 34 = .ok (.getfield 11, 3) := dk_180 0 11 (dk_at dksX1_pintsIn_1 12 rfl rfl)
theorem dX1_pintsIn_37 : decode cX1_pintsIn 37 = .ok (.aload 4, 2) := dk_25 4 (dk_at dksX1_pintsIn_1 15 rfl rfl)
theorem dX1_pintsIn_39 : decode cX1_pintsIn 39 = .ok (.getfield 103, 3) := dk_180 0 103 (dk_at dksX1_pintsIn_1 17 rfl rfl)
theorem dX1_pintsIn_42 : decode cX1_pintsIn 42 = .ok (.aaload, 1) := dk_50 (dk_at dksX1_pintsIn_1 20 rfl rfl)
theorem dX1_pintsIn_43 : decode cX1_pintsIn 43 = .ok (.getfield 106, 3) := dk_180 0 106 (dk_at dksX1_pintsIn_1 21 rfl rfl)
theorem dX1_pintsIn_46 : decode cX1_pintsIn 46 = .ok (.invokestatic 109, 3) := dk_184 0 109 (dk_at dksX1_pintsIn_2 0 rfl rfl)
theorem dX1_pintsIn_49 : decode cX1_pintsIn 49 = .ok (.imul, 1) := dk_104 (dk_at dksX1_pintsIn_2 3 rfl rfl)
theorem dX1_pintsIn_50 : decode cX1_pintsIn 50 = .ok (.iadd, 1) := dk_96 (dk_at dksX1_pintsIn_2 4 rfl rfl)
theorem dX1_pintsIn_51 : decode cX1_pintsIn 51 = .ok (.istore_n 2, 1) := dk_61 (dk_at dksX1_pintsIn_2 5 rfl rfl)
theorem dX1_pintsIn_52 : decode cX1_pintsIn 52 = .ok (.goto (-45), 3) := dk_167 255 211 (dk_at dksX1_pintsIn_2 6 rfl rfl)
theorem dX1_pintsIn_55 : decode cX1_pintsIn 55 = .ok (.iload_n 2, 1) := dk_28 (dk_at dksX1_pintsIn_2 9 rfl rfl)
theorem dX1_pintsIn_56 : decode cX1_pintsIn 56 = .ok (.ireturn, 1) := dk_172 (dk_at dksX1_pintsIn_2 10 rfl rfl)
def dkwX10_init_0 : List UInt8 := [42, 27, 28, 1, 183, 0, 1, 177]
abbrev dktX10_init_0 : List UInt8 := dkwX10_init_0 ++ []
theorem dksX10_init_0 : cX10_init.data.toList.drop 0 = dktX10_init_0 := by decide +kernel
theorem dX10_init_0 : decode cX10_init 0 = .ok (.aload_n 0, 1) := dk_42 (dk_at dksX10_init_0 0 rfl rfl)
theorem dX10_init_1 : decode cX10_init 1 = .ok (.iload_n 1, 1) := dk_27 (dk_at dksX10_init_0 1 rfl rfl)
theorem dX10_init_2 : decode cX10_init 2 = .ok (.iload_n 2, 1) := dk_28 (dk_at dksX10_init_0 2 rfl rfl)
theorem dX10_init_3 : decode cX10_init 3 = .ok (.aconst_null, 1) := dk_1 (dk_at dksX10_init_0 3 rfl rfl)
theorem dX10_init_4 : decode cX10_init 4 = .ok (.invokespecial 1, 3) := dk_183 0 1 (dk_at dksX10_init_0 4 rfl rfl)
theorem dX10_init_7 : decode cX10_init 7 = .ok (.return_, 1) := dk_177 (dk_at dksX10_init_0 7 rfl rfl)
def dkwX10_init_2_0 : List UInt8 := [42, 1, 45, 3, 3, 183, 0, 7, 42, 27, 181, 0, 12, 42, 28, 181, 0, 16, 177]
abbrev dktX10_init_2_0 : List UInt8 := dkwX10_init_2_0 ++ []
theorem dksX10_init_2_0 : cX10_init_2.data.toList.drop 0 = dktX10_init_2_0 := by decide +kernel
theorem dX10_init_2_0 : decode cX10_init_2 0 = .ok (.aload_n 0, 1) := dk_42 (dk_at dksX10_init_2_0 0 rfl rfl)
theorem dX10_init_2_1 : decode cX10_init_2 1 = .ok (.aconst_null, 1) := dk_1 (dk_at dksX10_init_2_0 1 rfl rfl)
theorem dX10_init_2_2 : decode cX10_init_2 2 = .ok (.aload_n 3, 1) := dk_45 (dk_at dksX10_init_2_0 2 rfl rfl)
theorem dX10_init_2_3 : decode cX10_init_2 3 = .ok (.iconst 0, 1) := dk_3 (dk_at dksX10_init_2_0 3 rfl rfl)
theorem dX10_init_2_4 : decode cX10_init_2 4 = .ok (.iconst 0, 1) := dk_3 (dk_at dksX10_init_2_0 4 rfl rfl)
theorem dX10_init_2_5 : decode cX10_init_2 5 = .ok (.invokespecial 7, 3) := dk_183 0 7 (dk_at dksX10_init_2_0 5 rfl rfl)
theorem dX10_init_2_8 : decode cX10_init_2 8 = .ok (.aload_n 0, 1) := dk_42 (dk_at dksX10_init_2_0 8 rfl rfl)
theorem dX10_init_2_9 : decode cX10_init_2 9 = .ok (.iload_n 1, 1) := dk_27 (dk_at dksX10_init_2_0 9 rfl rfl)
theorem dX10_init_2_10 : decode cX10_init_2 10 = .ok (.putfield 12, 3) := dk_181 0 12 (dk_at dksX10_init_2_0 10 rfl rfl)
theorem dX10_init_2_13 : decode cX10_init_2 13 = .ok (.aload_n 0, 1) := dk_42 (dk_at dksX10_init_2_0 13 rfl rfl)
theorem dX10_init_2_14 : decode cX10_init_2 14 = .ok (.iload_n 2, 1) := dk_28 (dk_at dksX10_init_2_0 14 rfl rfl)
theorem dX10_init_2_15 : decode cX10_init_2 15 = .ok (.putfield 16, 3) := dk_181 0 16 (dk_at dksX10_init_2_0 15 rfl rfl)
theorem dX10_init_2_18 : decode cX10_init_2 18 = .ok (.return_, 1) := dk_177 (dk_at dksX10_init_2_0 18 rfl rfl)
def dkwX10_behind_1 : List UInt8 := [44, 193, 0, 2, 153, 0, 10, 44, 192, 0, 2, 167, 0, 4, 1, 176]
abbrev dktX10_behind_1 : List UInt8 := dkwX10_behind_1 ++ []
def dkwX10_behind_0 : List UInt8 := [42, 77, 3, 62, 29, 27, 162, 0, 18, 44, 198, 0, 14, 44, 182, 0, 19, 77, 132, 3, 1, 167, 255, 239]
abbrev dktX10_behind_0 : List UInt8 := dkwX10_behind_0 ++ dktX10_behind_1
theorem dksX10_behind_0 : cX10_behind.data.toList.drop 0 = dktX10_behind_0 := by decide +kernel
theorem dksX10_behind_1 : cX10_behind.data.toList.drop 24 = dktX10_behind_1 := dk_seg dksX10_behind_0 24 rfl rfl
theorem dX10_behind_0 : decode cX10_behind 0 = .ok (.aload_n 0, 1) := dk_42 (dk_at dksX10_behind_0 0 rfl rfl)
theorem dX10_behind_1 : decode cX10_behind 1 = .ok (.astore_n 2, 1) := dk_77 (dk_at dksX10_behind_0 1 rfl rfl)
theorem dX10_behind_2 : decode cX10_behind 2 = .ok (.iconst 0, 1) := dk_3 (dk_at dksX10_behind_0 2 rfl rfl)
theorem dX10_behind_3 : decode cX10_behind 3 = .ok (.istore_n 3, 1) := dk_62 (dk_at dksX10_behind_0 3 rfl rfl)
theorem dX10_behind_4 : decode cX10_behind 4 = .ok (.iload_n 3, 1) := dk_29 (dk_at dksX10_behind_0 4 rfl rfl)
theorem dX10_behind_5 : decode cX10_behind 5 = .ok (.iload_n 1, 1) := dk_27 (dk_at dksX10_behind_0 5 rfl rfl)
theorem dX10_behind_6 : decode cX10_behind 6 = .ok (.if_icmp .ge 18, 3) := dk_162 0 18 (dk_at dksX10_behind_0 6 rfl rfl)
theorem dX10_behind_9 : decode cX10_behind 9 = .ok (.aload_n 2, 1) := dk_44 (dk_at dksX10_behind_0 9 rfl rfl)
theorem dX10_behind_10 : decode cX10_behind 10 = .ok (.ifnull 14, 3) := dk_198 0 14 (dk_at dksX10_behind_0 10 rfl rfl)
theorem dX10_behind_13 : decode cX10_behind 13 = .ok (.aload_n 2, 1) := dk_44 (dk_at dksX10_behind_0 13 rfl rfl)
theorem dX10_behind_14 : decode cX10_behind 14 = .ok (.invokevirtual 19, 3) := dk_182 0 19 (dk_at dksX10_behind_0 14 rfl rfl)
theorem dX10_behind_17 : decode cX10_behind 17 = .ok (.astore_n 2, 1) := dk_77 (dk_at dksX10_behind_0 17 rfl rfl)
theorem dX10_behind_18 : decode cX10_behind 18 = .ok (.iinc 3 1, 3) := dk_132 3 1 (dk_at dksX10_behind_0 18 rfl rfl)
theorem dX10_behind_21 : decode cX10_behind 21 = .ok (.goto (-17), 3) := dk_167 255 239 (dk_at dksX10_behind_0 21 rfl rfl)
theorem dX10_behind_24 : decode cX10_behind 24 = .ok (.aload_n 2, 1) := dk_44 (dk_at dksX10_behind_1 0 rfl rfl)
theorem dX10_behind_25 : decode cX10_behind 25 = .ok (.instanceof 2, 3) := dk_193 0 2 (dk_at dksX10_behind_1 1 rfl rfl)
theorem dX10_behind_28 : decode cX10_behind 28 = .ok (.ifCond .eq 10, 3) := dk_153 0 10 (dk_at dksX10_behind_1 4 rfl rfl)
theorem dX10_behind_31 : decode cX10_behind 31 = .ok (.aload_n 2, 1) := dk_44 (dk_at dksX10_behind_1 7 rfl rfl)
theorem dX10_behind_32 : decode cX10_behind 32 = .ok (.checkcast 2, 3) := dk_192 0 2 (dk_at dksX10_behind_1 8 rfl rfl)
theorem dX10_behind_35 : decode cX10_behind 35 = .ok (.goto 4, 3) := dk_167 0 4 (dk_at dksX10_behind_1 11 rfl rfl)
theorem dX10_behind_38 : decode cX10_behind 38 = .ok (.aconst_null, 1) := dk_1 (dk_at dksX10_behind_1 14 rfl rfl)
theorem dX10_behind_39 : decode cX10_behind 39 = .ok (.areturn, 1) := dk_176 (dk_at dksX10_behind_1 15 rfl rfl)
def dkwX11_init_0 : List UInt8 := [42, 1, 1, 3, 3, 183, 0, 1, 177]
abbrev dktX11_init_0 : List UInt8 := dkwX11_init_0 ++ []
theorem dksX11_init_0 : cX11_init.data.toList.drop 0 = dktX11_init_0 := by decide +kernel
theorem dX11_init_0 : decode cX11_init 0 = .ok (.aload_n 0, 1) := dk_42 (dk_at dksX11_init_0 0 rfl rfl)
theorem dX11_init_1 : decode cX11_init 1 = .ok (.aconst_null, 1) := dk_1 (dk_at dksX11_init_0 1 rfl rfl)
theorem dX11_init_2 : decode cX11_init 2 = .ok (.aconst_null, 1) := dk_1 (dk_at dksX11_init_0 2 rfl rfl)
theorem dX11_init_3 : decode cX11_init 3 = .ok (.iconst 0, 1) := dk_3 (dk_at dksX11_init_0 3 rfl rfl)
theorem dX11_init_4 : decode cX11_init 4 = .ok (.iconst 0, 1) := dk_3 (dk_at dksX11_init_0 4 rfl rfl)
theorem dX11_init_5 : decode cX11_init 5 = .ok (.invokespecial 1, 3) := dk_183 0 1 (dk_at dksX11_init_0 5 rfl rfl)
theorem dX11_init_8 : decode cX11_init 8 = .ok (.return_, 1) := dk_177 (dk_at dksX11_init_0 8 rfl rfl)
def dkwX12_init_2 : List UInt8 := [181, 0, 20, 177]
abbrev dktX12_init_2 : List UInt8 := dkwX12_init_2 ++ []
def dkwX12_init_1 : List UInt8 := [4, 46, 167, 0, 4, 3, 181, 0, 17, 42, 44, 190, 5, 164, 0, 9, 44, 5, 46, 167, 0, 4, 3]
abbrev dktX12_init_1 : List UInt8 := dkwX12_init_1 ++ dktX12_init_2
def dkwX12_init_0 : List UInt8 := [42, 43, 181, 0, 1, 42, 183, 0, 7, 42, 44, 3, 46, 181, 0, 13, 42, 44, 190, 4, 164, 0, 9, 44]
abbrev dktX12_init_0 : List UInt8 := dkwX12_init_0 ++ dktX12_init_1
theorem dksX12_init_0 : cX12_init.data.toList.drop 0 = dktX12_init_0 := by decide +kernel
theorem dksX12_init_1 : cX12_init.data.toList.drop 24 = dktX12_init_1 := dk_seg dksX12_init_0 24 rfl rfl
theorem dksX12_init_2 : cX12_init.data.toList.drop 47 = dktX12_init_2 := dk_seg dksX12_init_1 23 rfl rfl
theorem dX12_init_0 : decode cX12_init 0 = .ok (.aload_n 0, 1) := dk_42 (dk_at dksX12_init_0 0 rfl rfl)
theorem dX12_init_1 : decode cX12_init 1 = .ok (.aload_n 1, 1) := dk_43 (dk_at dksX12_init_0 1 rfl rfl)
theorem dX12_init_2 : decode cX12_init 2 = .ok (.putfield 1, 3) := dk_181 0 1 (dk_at dksX12_init_0 2 rfl rfl)
theorem dX12_init_5 : decode cX12_init 5 = .ok (.aload_n 0, 1) := dk_42 (dk_at dksX12_init_0 5 rfl rfl)
theorem dX12_init_6 : decode cX12_init 6 = .ok (.invokespecial 7, 3) := dk_183 0 7 (dk_at dksX12_init_0 6 rfl rfl)
theorem dX12_init_9 : decode cX12_init 9 = .ok (.aload_n 0, 1) := dk_42 (dk_at dksX12_init_0 9 rfl rfl)
theorem dX12_init_10 : decode cX12_init 10 = .ok (.aload_n 2, 1) := dk_44 (dk_at dksX12_init_0 10 rfl rfl)
theorem dX12_init_11 : decode cX12_init 11 = .ok (.iconst 0, 1) := dk_3 (dk_at dksX12_init_0 11 rfl rfl)
theorem dX12_init_12 : decode cX12_init 12 = .ok (.iaload, 1) := dk_46 (dk_at dksX12_init_0 12 rfl rfl)
theorem dX12_init_13 : decode cX12_init 13 = .ok (.putfield 13, 3) := dk_181 0 13 (dk_at dksX12_init_0 13 rfl rfl)
theorem dX12_init_16 : decode cX12_init 16 = .ok (.aload_n 0, 1) := dk_42 (dk_at dksX12_init_0 16 rfl rfl)
theorem dX12_init_17 : decode cX12_init 17 = .ok (.aload_n 2, 1) := dk_44 (dk_at dksX12_init_0 17 rfl rfl)
theorem dX12_init_18 : decode cX12_init 18 = .ok (.arraylength, 1) := dk_190 (dk_at dksX12_init_0 18 rfl rfl)
theorem dX12_init_19 : decode cX12_init 19 = .ok (.iconst 1, 1) := dk_4 (dk_at dksX12_init_0 19 rfl rfl)
theorem dX12_init_20 : decode cX12_init 20 = .ok (.if_icmp .le 9, 3) := dk_164 0 9 (dk_at dksX12_init_0 20 rfl rfl)
theorem dX12_init_23 : decode cX12_init 23 = .ok (.aload_n 2, 1) := dk_44 (dk_at dksX12_init_0 23 rfl rfl)
theorem dX12_init_24 : decode cX12_init 24 = .ok (.iconst 1, 1) := dk_4 (dk_at dksX12_init_1 0 rfl rfl)
theorem dX12_init_25 : decode cX12_init 25 = .ok (.iaload, 1) := dk_46 (dk_at dksX12_init_1 1 rfl rfl)
theorem dX12_init_26 : decode cX12_init 26 = .ok (.goto 4, 3) := dk_167 0 4 (dk_at dksX12_init_1 2 rfl rfl)
theorem dX12_init_29 : decode cX12_init 29 = .ok (.iconst 0, 1) := dk_3 (dk_at dksX12_init_1 5 rfl rfl)
theorem dX12_init_30 : decode cX12_init 30 = .ok (.putfield 17, 3) := dk_181 0 17 (dk_at dksX12_init_1 6 rfl rfl)
theorem dX12_init_33 : decode cX12_init 33 = .ok (.aload_n 0, 1) := dk_42 (dk_at dksX12_init_1 9 rfl rfl)
theorem dX12_init_34 : decode cX12_init 34 = .ok (.aload_n 2, 1) := dk_44 (dk_at dksX12_init_1 10 rfl rfl)
theorem dX12_init_35 : decode cX12_init 35 = .ok (.arraylength, 1) := dk_190 (dk_at dksX12_init_1 11 rfl rfl)
theorem dX12_init_36 : decode cX12_init 36 = .ok (.iconst 2, 1) := dk_5 (dk_at dksX12_init_1 12 rfl rfl)
theorem dX12_init_37 : decode cX12_init 37 = .ok (.if_icmp .le 9, 3) := dk_164 0 9 (dk_at dksX12_init_1 13 rfl rfl)
theorem dX12_init_40 : decode cX12_init 40 = .ok (.aload_n 2, 1) := dk_44 (dk_at dksX12_init_1 16 rfl rfl)
theorem dX12_init_41 : decode cX12_init 41 = .ok (.iconst 2, 1) := dk_5 (dk_at dksX12_init_1 17 rfl rfl)
theorem dX12_init_42 : decode cX12_init 42 = .ok (.iaload, 1) := dk_46 (dk_at dksX12_init_1 18 rfl rfl)
theorem dX12_init_43 : decode cX12_init 43 = .ok (.goto 4, 3) := dk_167 0 4 (dk_at dksX12_init_1 19 rfl rfl)
theorem dX12_init_46 : decode cX12_init 46 = .ok (.iconst 0, 1) := dk_3 (dk_at dksX12_init_1 22 rfl rfl)
theorem dX12_init_47 : decode cX12_init 47 = .ok (.putfield 20, 3) := dk_181 0 20 (dk_at dksX12_init_2 0 rfl rfl)
theorem dX12_init_50 : decode cX12_init 50 = .ok (.return_, 1) := dk_177 (dk_at dksX12_init_2 3 rfl rfl)
def dkwX13_init_0 : List UInt8 := [42, 43, 181, 0, 1, 42, 43, 5, 188, 10, 89, 3, 28, 79, 89, 4, 29, 79, 183, 0, 7, 177]
abbrev dktX13_init_0 : List UInt8 := dkwX13_init_0 ++ []
theorem dksX13_init_0 : cX13_init.data.toList.drop 0 = dktX13_init_0 := by decide +kernel
theorem dX13_init_0 : decode cX13_init 0 = .ok (.aload_n 0, 1) := dk_42 (dk_at dksX13_init_0 0 rfl rfl)
theorem dX13_init_1 : decode cX13_init 1 = .ok (.aload_n 1, 1) := dk_43 (dk_at dksX13_init_0 1 rfl rfl)
theorem dX13_init_2 : decode cX13_init 2 = .ok (.putfield 1, 3) := dk_181 0 1 (dk_at dksX13_init_0 2 rfl rfl)
theorem dX13_init_5 : decode cX13_init 5 = .ok (.aload_n 0, 1) := dk_42 (dk_at dksX13_init_0 5 rfl rfl)
theorem dX13_init_6 : decode cX13_init 6 = .ok (.aload_n 1, 1) := dk_43 (dk_at dksX13_init_0 6 rfl rfl)
theorem dX13_init_7 : decode cX13_init 7 = .ok (.iconst 2, 1) := dk_5 (dk_at dksX13_init_0 7 rfl rfl)
theorem dX13_init_8 : decode cX13_init 8 = .ok (.newarray .int, 2) := dk_188_10 (dk_at dksX13_init_0 8 rfl rfl)
theorem dX13_init_10 : decode cX13_init 10 = .ok (.dup, 1) := dk_89 (dk_at dksX13_init_0 10 rfl rfl)
theorem dX13_init_11 : decode cX13_init 11 = .ok (.iconst 0, 1) := dk_3 (dk_at dksX13_init_0 11 rfl rfl)
theorem dX13_init_12 : decode cX13_init 12 = .ok (.iload_n 2, 1) := dk_28 (dk_at dksX13_init_0 12 rfl rfl)
theorem dX13_init_13 : decode cX13_init 13 = .ok (.iastore, 1) := dk_79 (dk_at dksX13_init_0 13 rfl rfl)
theorem dX13_init_14 : decode cX13_init 14 = .ok (.dup, 1) := dk_89 (dk_at dksX13_init_0 14 rfl rfl)
theorem dX13_init_15 : decode cX13_init 15 = .ok (.iconst 1, 1) := dk_4 (dk_at dksX13_init_0 15 rfl rfl)
theorem dX13_init_16 : decode cX13_init 16 = .ok (.iload_n 3, 1) := dk_29 (dk_at dksX13_init_0 16 rfl rfl)
theorem dX13_init_17 : decode cX13_init 17 = .ok (.iastore, 1) := dk_79 (dk_at dksX13_init_0 17 rfl rfl)
theorem dX13_init_18 : decode cX13_init 18 = .ok (.invokespecial 7, 3) := dk_183 0 7 (dk_at dksX13_init_0 18 rfl rfl)
theorem dX13_init_21 : decode cX13_init 21 = .ok (.return_, 1) := dk_177 (dk_at dksX13_init_0 21 rfl rfl)
def dkwX13_done_0 : List UInt8 := [42, 180, 0, 1, 42, 180, 0, 13, 42, 180, 0, 17, 182, 0, 20, 172]
abbrev dktX13_done_0 : List UInt8 := dkwX13_done_0 ++ []
theorem dksX13_done_0 : cX13_done.data.toList.drop 0 = dktX13_done_0 := by decide +kernel
theorem dX13_done_0 : decode cX13_done 0 = .ok (.aload_n 0, 1) := dk_42 (dk_at dksX13_done_0 0 rfl rfl)
theorem dX13_done_1 : decode cX13_done 1 = .ok (.getfield 1, 3) := dk_180 0 1 (dk_at dksX13_done_0 1 rfl rfl)
theorem dX13_done_4 : decode cX13_done 4 = .ok (.aload_n 0, 1) := dk_42 (dk_at dksX13_done_0 4 rfl rfl)
theorem dX13_done_5 : decode cX13_done 5 = .ok (.getfield 13, 3) := dk_180 0 13 (dk_at dksX13_done_0 5 rfl rfl)
theorem dX13_done_8 : decode cX13_done 8 = .ok (.aload_n 0, 1) := dk_42 (dk_at dksX13_done_0 8 rfl rfl)
theorem dX13_done_9 : decode cX13_done 9 = .ok (.getfield 17, 3) := dk_180 0 17 (dk_at dksX13_done_0 9 rfl rfl)
theorem dX13_done_12 : decode cX13_done 12 = .ok (.invokevirtual 20, 3) := dk_182 0 20 (dk_at dksX13_done_0 12 rfl rfl)
theorem dX13_done_15 : decode cX13_done 15 = .ok (.ireturn, 1) := dk_172 (dk_at dksX13_done_0 15 rfl rfl)
def dkwX14_init_1 : List UInt8 := [183, 0, 7, 177]
abbrev dktX14_init_1 : List UInt8 := dkwX14_init_1 ++ []
def dkwX14_init_0 : List UInt8 := [42, 43, 181, 0, 1, 42, 43, 6, 188, 10, 89, 3, 28, 79, 89, 4, 29, 79, 89, 5, 21, 4, 79]
abbrev dktX14_init_0 : List UInt8 := dkwX14_init_0 ++ dktX14_init_1
theorem dksX14_init_0 : cX14_init.data.toList.drop 0 = dktX14_init_0 := by decide +kernel
theorem dksX14_init_1 : cX14_init.data.toList.drop 23 = dktX14_init_1 := dk_seg dksX14_init_0 23 rfl rfl
theorem dX14_init_0 : decode cX14_init 0 = .ok (.aload_n 0, 1) := dk_42 (dk_at dksX14_init_0 0 rfl rfl)
theorem dX14_init_1 : decode cX14_init 1 = .ok (.aload_n 1, 1) := dk_43 (dk_at dksX14_init_0 1 rfl rfl)
theorem dX14_init_2 : decode cX14_init 2 = .ok (.putfield 1, 3) := dk_181 0 1 (dk_at dksX14_init_0 2 rfl rfl)
theorem dX14_init_5 : decode cX14_init 5 = .ok (.aload_n 0, 1) := dk_42 (dk_at dksX14_init_0 5 rfl rfl)
theorem dX14_init_6 : decode cX14_init 6 = .ok (.aload_n 1, 1) := dk_43 (dk_at dksX14_init_0 6 rfl rfl)
theorem dX14_init_7 : decode cX14_init 7 = .ok (.iconst 3, 1) := dk_6 (dk_at dksX14_init_0 7 rfl rfl)
theorem dX14_init_8 : decode cX14_init 8 = .ok (.newarray .int, 2) := dk_188_10 (dk_at dksX14_init_0 8 rfl rfl)
theorem dX14_init_10 : decode cX14_init 10 = .ok (.dup, 1) := dk_89 (dk_at dksX14_init_0 10 rfl rfl)
theorem dX14_init_11 : decode cX14_init 11 = .ok (.iconst 0, 1) := dk_3 (dk_at dksX14_init_0 11 rfl rfl)
theorem dX14_init_12 : decode cX14_init 12 = .ok (.iload_n 2, 1) := dk_28 (dk_at dksX14_init_0 12 rfl rfl)
theorem dX14_init_13 : decode cX14_init 13 = .ok (.iastore, 1) := dk_79 (dk_at dksX14_init_0 13 rfl rfl)
theorem dX14_init_14 : decode cX14_init 14 = .ok (.dup, 1) := dk_89 (dk_at dksX14_init_0 14 rfl rfl)
theorem dX14_init_15 : decode cX14_init 15 = .ok (.iconst 1, 1) := dk_4 (dk_at dksX14_init_0 15 rfl rfl)
theorem dX14_init_16 : decode cX14_init 16 = .ok (.iload_n 3, 1) := dk_29 (dk_at dksX14_init_0 16 rfl rfl)
theorem dX14_init_17 : decode cX14_init 17 = .ok (.iastore, 1) := dk_79 (dk_at dksX14_init_0 17 rfl rfl)
theorem dX14_init_18 : decode cX14_init 18 = .ok (.dup, 1) := dk_89 (dk_at dksX14_init_0 18 rfl rfl)
theorem dX14_init_19 : decode cX14_init 19 = .ok (.iconst 2, 1) := dk_5 (dk_at dksX14_init_0 19 rfl rfl)
theorem dX14_init_20 : decode cX14_init 20 = .ok (.iload 4, 2) := dk_21 4 (dk_at dksX14_init_0 20 rfl rfl)
theorem dX14_init_22 : decode cX14_init 22 = .ok (.iastore, 1) := dk_79 (dk_at dksX14_init_0 22 rfl rfl)
theorem dX14_init_23 : decode cX14_init 23 = .ok (.invokespecial 7, 3) := dk_183 0 7 (dk_at dksX14_init_1 0 rfl rfl)
theorem dX14_init_26 : decode cX14_init 26 = .ok (.return_, 1) := dk_177 (dk_at dksX14_init_1 3 rfl rfl)
def dkwX14_done_0 : List UInt8 := [42, 180, 0, 1, 42, 180, 0, 13, 42, 180, 0, 17, 42, 180, 0, 20, 182, 0, 23, 172]
abbrev dktX14_done_0 : List UInt8 := dkwX14_done_0 ++ []
theorem dksX14_done_0 : cX14_done.data.toList.drop 0 = dktX14_done_0 := by decide +kernel
theorem dX14_done_0 : decode cX14_done 0 = .ok (.aload_n 0, 1) := dk_42 (dk_at dksX14_done_0 0 rfl rfl)
theorem dX14_done_1 : decode cX14_done 1 = .ok (.getfield 1, 3) := dk_180 0 1 (dk_at dksX14_done_0 1 rfl rfl)
theorem dX14_done_4 : decode cX14_done 4 = .ok (.aload_n 0, 1) := dk_42 (dk_at dksX14_done_0 4 rfl rfl)
theorem dX14_done_5 : decode cX14_done 5 = .ok (.getfield 13, 3) := dk_180 0 13 (dk_at dksX14_done_0 5 rfl rfl)
theorem dX14_done_8 : decode cX14_done 8 = .ok (.aload_n 0, 1) := dk_42 (dk_at dksX14_done_0 8 rfl rfl)
theorem dX14_done_9 : decode cX14_done 9 = .ok (.getfield 17, 3) := dk_180 0 17 (dk_at dksX14_done_0 9 rfl rfl)
theorem dX14_done_12 : decode cX14_done 12 = .ok (.aload_n 0, 1) := dk_42 (dk_at dksX14_done_0 12 rfl rfl)
theorem dX14_done_13 : decode cX14_done 13 = .ok (.getfield 20, 3) := dk_180 0 20 (dk_at dksX14_done_0 13 rfl rfl)
theorem dX14_done_16 : decode cX14_done 16 = .ok (.invokevirtual 23, 3) := dk_182 0 23 (dk_at dksX14_done_0 16 rfl rfl)
theorem dX14_done_19 : decode cX14_done 19 = .ok (.ireturn, 1) := dk_172 (dk_at dksX14_done_0 19 rfl rfl)
def dkwX15_init_1 : List UInt8 := [183, 0, 7, 177]
abbrev dktX15_init_1 : List UInt8 := dkwX15_init_1 ++ []
def dkwX15_init_0 : List UInt8 := [42, 43, 181, 0, 1, 42, 43, 6, 188, 10, 89, 3, 28, 79, 89, 4, 29, 79, 89, 5, 21, 4, 79]
abbrev dktX15_init_0 : List UInt8 := dkwX15_init_0 ++ dktX15_init_1
theorem dksX15_init_0 : cX15_init.data.toList.drop 0 = dktX15_init_0 := by decide +kernel
theorem dksX15_init_1 : cX15_init.data.toList.drop 23 = dktX15_init_1 := dk_seg dksX15_init_0 23 rfl rfl
theorem dX15_init_0 : decode cX15_init 0 = .ok (.aload_n 0, 1) := dk_42 (dk_at dksX15_init_0 0 rfl rfl)
theorem dX15_init_1 : decode cX15_init 1 = .ok (.aload_n 1, 1) := dk_43 (dk_at dksX15_init_0 1 rfl rfl)
theorem dX15_init_2 : decode cX15_init 2 = .ok (.putfield 1, 3) := dk_181 0 1 (dk_at dksX15_init_0 2 rfl rfl)
theorem dX15_init_5 : decode cX15_init 5 = .ok (.aload_n 0, 1) := dk_42 (dk_at dksX15_init_0 5 rfl rfl)
theorem dX15_init_6 : decode cX15_init 6 = .ok (.aload_n 1, 1) := dk_43 (dk_at dksX15_init_0 6 rfl rfl)
theorem dX15_init_7 : decode cX15_init 7 = .ok (.iconst 3, 1) := dk_6 (dk_at dksX15_init_0 7 rfl rfl)
theorem dX15_init_8 : decode cX15_init 8 = .ok (.newarray .int, 2) := dk_188_10 (dk_at dksX15_init_0 8 rfl rfl)
theorem dX15_init_10 : decode cX15_init 10 = .ok (.dup, 1) := dk_89 (dk_at dksX15_init_0 10 rfl rfl)
theorem dX15_init_11 : decode cX15_init 11 = .ok (.iconst 0, 1) := dk_3 (dk_at dksX15_init_0 11 rfl rfl)
theorem dX15_init_12 : decode cX15_init 12 = .ok (.iload_n 2, 1) := dk_28 (dk_at dksX15_init_0 12 rfl rfl)
theorem dX15_init_13 : decode cX15_init 13 = .ok (.iastore, 1) := dk_79 (dk_at dksX15_init_0 13 rfl rfl)
theorem dX15_init_14 : decode cX15_init 14 = .ok (.dup, 1) := dk_89 (dk_at dksX15_init_0 14 rfl rfl)
theorem dX15_init_15 : decode cX15_init 15 = .ok (.iconst 1, 1) := dk_4 (dk_at dksX15_init_0 15 rfl rfl)
theorem dX15_init_16 : decode cX15_init 16 = .ok (.iload_n 3, 1) := dk_29 (dk_at dksX15_init_0 16 rfl rfl)
theorem dX15_init_17 : decode cX15_init 17 = .ok (.iastore, 1) := dk_79 (dk_at dksX15_init_0 17 rfl rfl)
theorem dX15_init_18 : decode cX15_init 18 = .ok (.dup, 1) := dk_89 (dk_at dksX15_init_0 18 rfl rfl)
theorem dX15_init_19 : decode cX15_init 19 = .ok (.iconst 2, 1) := dk_5 (dk_at dksX15_init_0 19 rfl rfl)
theorem dX15_init_20 : decode cX15_init 20 = .ok (.iload 4, 2) := dk_21 4 (dk_at dksX15_init_0 20 rfl rfl)
theorem dX15_init_22 : decode cX15_init 22 = .ok (.iastore, 1) := dk_79 (dk_at dksX15_init_0 22 rfl rfl)
theorem dX15_init_23 : decode cX15_init 23 = .ok (.invokespecial 7, 3) := dk_183 0 7 (dk_at dksX15_init_1 0 rfl rfl)
theorem dX15_init_26 : decode cX15_init 26 = .ok (.return_, 1) := dk_177 (dk_at dksX15_init_1 3 rfl rfl)
def dkwX15_done_0 : List UInt8 := [42, 180, 0, 1, 42, 180, 0, 13, 42, 180, 0, 17, 42, 180, 0, 20, 182, 0, 23, 172]
abbrev dktX15_done_0 : List UInt8 := dkwX15_done_0 ++ []
theorem dksX15_done_0 : cX15_done.data.toList.drop 0 = dktX15_done_0 := by decide +kernel
theorem dX15_done_0 : decode cX15_done 0 = .ok (.aload_n 0, 1) := dk_42 (dk_at dksX15_done_0 0 rfl rfl)
theorem dX15_done_1 : decode cX15_done 1 = .ok (.getfield 1, 3) := dk_180 0 1 (dk_at dksX15_done_0 1 rfl rfl)
theorem dX15_done_4 : decode cX15_done 4 = .ok (.aload_n 0, 1) := dk_42 (dk_at dksX15_done_0 4 rfl rfl)
theorem dX15_done_5 : decode cX15_done 5 = .ok (.getfield 13, 3) := dk_180 0 13 (dk_at dksX15_done_0 5 rfl rfl)
theorem dX15_done_8 : decode cX15_done 8 = .ok (.aload_n 0, 1) := dk_42 (dk_at dksX15_done_0 8 rfl rfl)
theorem dX15_done_9 : decode cX15_done 9 = .ok (.getfield 17, 3) := dk_180 0 17 (dk_at dksX15_done_0 9 rfl rfl)
theorem dX15_done_12 : decode cX15_done 12 = .ok (.aload_n 0, 1) := dk_42 (dk_at dksX15_done_0 12 rfl rfl)
theorem dX15_done_13 : decode cX15_done 13 = .ok (.getfield 20, 3) := dk_180 0 20 (dk_at dksX15_done_0 13 rfl rfl)
theorem dX15_done_16 : decode cX15_done 16 = .ok (.invokevirtual 23, 3) := dk_182 0 23 (dk_at dksX15_done_0 16 rfl rfl)
theorem dX15_done_19 : decode cX15_done 19 = .ok (.ireturn, 1) := dk_172 (dk_at dksX15_done_0 19 rfl rfl)
def dkwX16_init_1 : List UInt8 := [183, 0, 7, 177]
abbrev dktX16_init_1 : List UInt8 := dkwX16_init_1 ++ []
def dkwX16_init_0 : List UInt8 := [42, 43, 181, 0, 1, 42, 43, 6, 188, 10, 89, 3, 28, 79, 89, 4, 29, 79, 89, 5, 21, 4, 79]
abbrev dktX16_init_0 : List UInt8 := dkwX16_init_0 ++ dktX16_init_1
theorem dksX16_init_0 : cX16_init.data.toList.drop 0 = dktX16_init_0 := by decide +kernel
theorem dksX16_init_1 : cX16_init.data.toList.drop 23 = dktX16_init_1 := dk_seg dksX16_init_0 23 rfl rfl
theorem dX16_init_0 : decode cX16_init 0 = .ok (.aload_n 0, 1) := dk_42 (dk_at dksX16_init_0 0 rfl rfl)
theorem dX16_init_1 : decode cX16_init 1 = .ok (.aload_n 1, 1) := dk_43 (dk_at dksX16_init_0 1 rfl rfl)
theorem dX16_init_2 : decode cX16_init 2 = .ok (.putfield 1, 3) := dk_181 0 1 (dk_at dksX16_init_0 2 rfl rfl)
theorem dX16_init_5 : decode cX16_init 5 = .ok (.aload_n 0, 1) := dk_42 (dk_at dksX16_init_0 5 rfl rfl)
theorem dX16_init_6 : decode cX16_init 6 = .ok (.aload_n 1, 1) := dk_43 (dk_at dksX16_init_0 6 rfl rfl)
theorem dX16_init_7 : decode cX16_init 7 = .ok (.iconst 3, 1) := dk_6 (dk_at dksX16_init_0 7 rfl rfl)
theorem dX16_init_8 : decode cX16_init 8 = .ok (.newarray .int, 2) := dk_188_10 (dk_at dksX16_init_0 8 rfl rfl)
theorem dX16_init_10 : decode cX16_init 10 = .ok (.dup, 1) := dk_89 (dk_at dksX16_init_0 10 rfl rfl)
theorem dX16_init_11 : decode cX16_init 11 = .ok (.iconst 0, 1) := dk_3 (dk_at dksX16_init_0 11 rfl rfl)
theorem dX16_init_12 : decode cX16_init 12 = .ok (.iload_n 2, 1) := dk_28 (dk_at dksX16_init_0 12 rfl rfl)
theorem dX16_init_13 : decode cX16_init 13 = .ok (.iastore, 1) := dk_79 (dk_at dksX16_init_0 13 rfl rfl)
theorem dX16_init_14 : decode cX16_init 14 = .ok (.dup, 1) := dk_89 (dk_at dksX16_init_0 14 rfl rfl)
theorem dX16_init_15 : decode cX16_init 15 = .ok (.iconst 1, 1) := dk_4 (dk_at dksX16_init_0 15 rfl rfl)
theorem dX16_init_16 : decode cX16_init 16 = .ok (.iload_n 3, 1) := dk_29 (dk_at dksX16_init_0 16 rfl rfl)
theorem dX16_init_17 : decode cX16_init 17 = .ok (.iastore, 1) := dk_79 (dk_at dksX16_init_0 17 rfl rfl)
theorem dX16_init_18 : decode cX16_init 18 = .ok (.dup, 1) := dk_89 (dk_at dksX16_init_0 18 rfl rfl)
theorem dX16_init_19 : decode cX16_init 19 = .ok (.iconst 2, 1) := dk_5 (dk_at dksX16_init_0 19 rfl rfl)
theorem dX16_init_20 : decode cX16_init 20 = .ok (.iload 4, 2) := dk_21 4 (dk_at dksX16_init_0 20 rfl rfl)
theorem dX16_init_22 : decode cX16_init 22 = .ok (.iastore, 1) := dk_79 (dk_at dksX16_init_0 22 rfl rfl)
theorem dX16_init_23 : decode cX16_init 23 = .ok (.invokespecial 7, 3) := dk_183 0 7 (dk_at dksX16_init_1 0 rfl rfl)
theorem dX16_init_26 : decode cX16_init 26 = .ok (.return_, 1) := dk_177 (dk_at dksX16_init_1 3 rfl rfl)
def dkwX16_done_0 : List UInt8 := [42, 180, 0, 1, 42, 180, 0, 13, 42, 180, 0, 17, 42, 180, 0, 20, 182, 0, 23, 172]
abbrev dktX16_done_0 : List UInt8 := dkwX16_done_0 ++ []
theorem dksX16_done_0 : cX16_done.data.toList.drop 0 = dktX16_done_0 := by decide +kernel
theorem dX16_done_0 : decode cX16_done 0 = .ok (.aload_n 0, 1) := dk_42 (dk_at dksX16_done_0 0 rfl rfl)
theorem dX16_done_1 : decode cX16_done 1 = .ok (.getfield 1, 3) := dk_180 0 1 (dk_at dksX16_done_0 1 rfl rfl)
theorem dX16_done_4 : decode cX16_done 4 = .ok (.aload_n 0, 1) := dk_42 (dk_at dksX16_done_0 4 rfl rfl)
theorem dX16_done_5 : decode cX16_done 5 = .ok (.getfield 13, 3) := dk_180 0 13 (dk_at dksX16_done_0 5 rfl rfl)
theorem dX16_done_8 : decode cX16_done 8 = .ok (.aload_n 0, 1) := dk_42 (dk_at dksX16_done_0 8 rfl rfl)
theorem dX16_done_9 : decode cX16_done 9 = .ok (.getfield 17, 3) := dk_180 0 17 (dk_at dksX16_done_0 9 rfl rfl)
theorem dX16_done_12 : decode cX16_done 12 = .ok (.aload_n 0, 1) := dk_42 (dk_at dksX16_done_0 12 rfl rfl)
theorem dX16_done_13 : decode cX16_done 13 = .ok (.getfield 20, 3) := dk_180 0 20 (dk_at dksX16_done_0 13 rfl rfl)
theorem dX16_done_16 : decode cX16_done 16 = .ok (.invokevirtual 23, 3) := dk_182 0 23 (dk_at dksX16_done_0 16 rfl rfl)
theorem dX16_done_19 : decode cX16_done 19 = .ok (.ireturn, 1) := dk_172 (dk_at dksX16_done_0 19 rfl rfl)
def dkwX17_init_0 : List UInt8 := [42, 43, 181, 0, 1, 42, 43, 4, 188, 10, 89, 3, 28, 79, 183, 0, 7, 177]
abbrev dktX17_init_0 : List UInt8 := dkwX17_init_0 ++ []
theorem dksX17_init_0 : cX17_init.data.toList.drop 0 = dktX17_init_0 := by decide +kernel
theorem dX17_init_0 : decode cX17_init 0 = .ok (.aload_n 0, 1) := dk_42 (dk_at dksX17_init_0 0 rfl rfl)
theorem dX17_init_1 : decode cX17_init 1 = .ok (.aload_n 1, 1) := dk_43 (dk_at dksX17_init_0 1 rfl rfl)
theorem dX17_init_2 : decode cX17_init 2 = .ok (.putfield 1, 3) := dk_181 0 1 (dk_at dksX17_init_0 2 rfl rfl)
theorem dX17_init_5 : decode cX17_init 5 = .ok (.aload_n 0, 1) := dk_42 (dk_at dksX17_init_0 5 rfl rfl)
theorem dX17_init_6 : decode cX17_init 6 = .ok (.aload_n 1, 1) := dk_43 (dk_at dksX17_init_0 6 rfl rfl)
theorem dX17_init_7 : decode cX17_init 7 = .ok (.iconst 1, 1) := dk_4 (dk_at dksX17_init_0 7 rfl rfl)
theorem dX17_init_8 : decode cX17_init 8 = .ok (.newarray .int, 2) := dk_188_10 (dk_at dksX17_init_0 8 rfl rfl)
theorem dX17_init_10 : decode cX17_init 10 = .ok (.dup, 1) := dk_89 (dk_at dksX17_init_0 10 rfl rfl)
theorem dX17_init_11 : decode cX17_init 11 = .ok (.iconst 0, 1) := dk_3 (dk_at dksX17_init_0 11 rfl rfl)
theorem dX17_init_12 : decode cX17_init 12 = .ok (.iload_n 2, 1) := dk_28 (dk_at dksX17_init_0 12 rfl rfl)
theorem dX17_init_13 : decode cX17_init 13 = .ok (.iastore, 1) := dk_79 (dk_at dksX17_init_0 13 rfl rfl)
theorem dX17_init_14 : decode cX17_init 14 = .ok (.invokespecial 7, 3) := dk_183 0 7 (dk_at dksX17_init_0 14 rfl rfl)
theorem dX17_init_17 : decode cX17_init 17 = .ok (.return_, 1) := dk_177 (dk_at dksX17_init_0 17 rfl rfl)
def dkwX17_done_0 : List UInt8 := [42, 180, 0, 1, 42, 180, 0, 13, 182, 0, 17, 172]
abbrev dktX17_done_0 : List UInt8 := dkwX17_done_0 ++ []
theorem dksX17_done_0 : cX17_done.data.toList.drop 0 = dktX17_done_0 := by decide +kernel
theorem dX17_done_0 : decode cX17_done 0 = .ok (.aload_n 0, 1) := dk_42 (dk_at dksX17_done_0 0 rfl rfl)
theorem dX17_done_1 : decode cX17_done 1 = .ok (.getfield 1, 3) := dk_180 0 1 (dk_at dksX17_done_0 1 rfl rfl)
theorem dX17_done_4 : decode cX17_done 4 = .ok (.aload_n 0, 1) := dk_42 (dk_at dksX17_done_0 4 rfl rfl)
theorem dX17_done_5 : decode cX17_done 5 = .ok (.getfield 13, 3) := dk_180 0 13 (dk_at dksX17_done_0 5 rfl rfl)
theorem dX17_done_8 : decode cX17_done 8 = .ok (.invokevirtual 17, 3) := dk_182 0 17 (dk_at dksX17_done_0 8 rfl rfl)
theorem dX17_done_11 : decode cX17_done 11 = .ok (.ireturn, 1) := dk_172 (dk_at dksX17_done_0 11 rfl rfl)
def dkwX18_init_0 : List UInt8 := [42, 43, 181, 0, 1, 42, 43, 4, 188, 10, 89, 3, 28, 79, 183, 0, 7, 177]
abbrev dktX18_init_0 : List UInt8 := dkwX18_init_0 ++ []
theorem dksX18_init_0 : cX18_init.data.toList.drop 0 = dktX18_init_0 := by decide +kernel
theorem dX18_init_0 : decode cX18_init 0 = .ok (.aload_n 0, 1) := dk_42 (dk_at dksX18_init_0 0 rfl rfl)
theorem dX18_init_1 : decode cX18_init 1 = .ok (.aload_n 1, 1) := dk_43 (dk_at dksX18_init_0 1 rfl rfl)
theorem dX18_init_2 : decode cX18_init 2 = .ok (.putfield 1, 3) := dk_181 0 1 (dk_at dksX18_init_0 2 rfl rfl)
theorem dX18_init_5 : decode cX18_init 5 = .ok (.aload_n 0, 1) := dk_42 (dk_at dksX18_init_0 5 rfl rfl)
theorem dX18_init_6 : decode cX18_init 6 = .ok (.aload_n 1, 1) := dk_43 (dk_at dksX18_init_0 6 rfl rfl)
theorem dX18_init_7 : decode cX18_init 7 = .ok (.iconst 1, 1) := dk_4 (dk_at dksX18_init_0 7 rfl rfl)
theorem dX18_init_8 : decode cX18_init 8 = .ok (.newarray .int, 2) := dk_188_10 (dk_at dksX18_init_0 8 rfl rfl)
theorem dX18_init_10 : decode cX18_init 10 = .ok (.dup, 1) := dk_89 (dk_at dksX18_init_0 10 rfl rfl)
theorem dX18_init_11 : decode cX18_init 11 = .ok (.iconst 0, 1) := dk_3 (dk_at dksX18_init_0 11 rfl rfl)
theorem dX18_init_12 : decode cX18_init 12 = .ok (.iload_n 2, 1) := dk_28 (dk_at dksX18_init_0 12 rfl rfl)
theorem dX18_init_13 : decode cX18_init 13 = .ok (.iastore, 1) := dk_79 (dk_at dksX18_init_0 13 rfl rfl)
theorem dX18_init_14 : decode cX18_init 14 = .ok (.invokespecial 7, 3) := dk_183 0 7 (dk_at dksX18_init_0 14 rfl rfl)
theorem dX18_init_17 : decode cX18_init 17 = .ok (.return_, 1) := dk_177 (dk_at dksX18_init_0 17 rfl rfl)
def dkwX18_done_0 : List UInt8 := [42, 180, 0, 1, 42, 180, 0, 13, 182, 0, 17, 172]
abbrev dktX18_done_0 : List UInt8 := dkwX18_done_0 ++ []
theorem dksX18_done_0 : cX18_done.data.toList.drop 0 = dktX18_done_0 := by decide +kernel
theorem dX18_done_0 : decode cX18_done 0 = .ok (.aload_n 0, 1) := dk_42 (dk_at dksX18_done_0 0 rfl rfl)
theorem dX18_done_1 : decode cX18_done 1 = .ok (.getfield 1, 3) := dk_180 0 1 (dk_at dksX18_done_0 1 rfl rfl)
theorem dX18_done_4 : decode cX18_done 4 = .ok (.aload_n 0, 1) := dk_42 (dk_at dksX18_done_0 4 rfl rfl)
theorem dX18_done_5 : decode cX18_done 5 = .ok (.getfield 13, 3) := dk_180 0 13 (dk_at dksX18_done_0 5 rfl rfl)
theorem dX18_done_8 : decode cX18_done 8 = .ok (.invokevirtual 17, 3) := dk_182 0 17 (dk_at dksX18_done_0 8 rfl rfl)
theorem dX18_done_11 : decode cX18_done 11 = .ok (.ireturn, 1) := dk_172 (dk_at dksX18_done_0 11 rfl rfl)
def dkwX19_init_0 : List UInt8 := [42, 43, 181, 0, 1, 42, 43, 4, 188, 10, 89, 3, 28, 79, 183, 0, 7, 177]
abbrev dktX19_init_0 : List UInt8 := dkwX19_init_0 ++ []
theorem dksX19_init_0 : cX19_init.data.toList.drop 0 = dktX19_init_0 := by decide +kernel
theorem dX19_init_0 : decode cX19_init 0 = .ok (.aload_n 0, 1) := dk_42 (dk_at dksX19_init_0 0 rfl rfl)
theorem dX19_init_1 : decode cX19_init 1 = .ok (.aload_n 1, 1) := dk_43 (dk_at dksX19_init_0 1 rfl rfl)
theorem dX19_init_2 : decode cX19_init 2 = .ok (.putfield 1, 3) := dk_181 0 1 (dk_at dksX19_init_0 2 rfl rfl)
theorem dX19_init_5 : decode cX19_init 5 = .ok (.aload_n 0, 1) := dk_42 (dk_at dksX19_init_0 5 rfl rfl)
theorem dX19_init_6 : decode cX19_init 6 = .ok (.aload_n 1, 1) := dk_43 (dk_at dksX19_init_0 6 rfl rfl)
theorem dX19_init_7 : decode cX19_init 7 = .ok (.iconst 1, 1) := dk_4 (dk_at dksX19_init_0 7 rfl rfl)
theorem dX19_init_8 : decode cX19_init 8 = .ok (.newarray .int, 2) := dk_188_10 (dk_at dksX19_init_0 8 rfl rfl)
theorem dX19_init_10 : decode cX19_init 10 = .ok (.dup, 1) := dk_89 (dk_at dksX19_init_0 10 rfl rfl)
theorem dX19_init_11 : decode cX19_init 11 = .ok (.iconst 0, 1) := dk_3 (dk_at dksX19_init_0 11 rfl rfl)
theorem dX19_init_12 : decode cX19_init 12 = .ok (.iload_n 2, 1) := dk_28 (dk_at dksX19_init_0 12 rfl rfl)
theorem dX19_init_13 : decode cX19_init 13 = .ok (.iastore, 1) := dk_79 (dk_at dksX19_init_0 13 rfl rfl)
theorem dX19_init_14 : decode cX19_init 14 = .ok (.invokespecial 7, 3) := dk_183 0 7 (dk_at dksX19_init_0 14 rfl rfl)
theorem dX19_init_17 : decode cX19_init 17 = .ok (.return_, 1) := dk_177 (dk_at dksX19_init_0 17 rfl rfl)
def dkwX19_done_0 : List UInt8 := [42, 180, 0, 1, 42, 180, 0, 13, 182, 0, 17, 172]
abbrev dktX19_done_0 : List UInt8 := dkwX19_done_0 ++ []
theorem dksX19_done_0 : cX19_done.data.toList.drop 0 = dktX19_done_0 := by decide +kernel
theorem dX19_done_0 : decode cX19_done 0 = .ok (.aload_n 0, 1) := dk_42 (dk_at dksX19_done_0 0 rfl rfl)
theorem dX19_done_1 : decode cX19_done 1 = .ok (.getfield 1, 3) := dk_180 0 1 (dk_at dksX19_done_0 1 rfl rfl)
theorem dX19_done_4 : decode cX19_done 4 = .ok (.aload_n 0, 1) := dk_42 (dk_at dksX19_done_0 4 rfl rfl)
theorem dX19_done_5 : decode cX19_done 5 = .ok (.getfield 13, 3) := dk_180 0 13 (dk_at dksX19_done_0 5 rfl rfl)
theorem dX19_done_8 : decode cX19_done 8 = .ok (.invokevirtual 17, 3) := dk_182 0 17 (dk_at dksX19_done_0 8 rfl rfl)
theorem dX19_done_11 : decode cX19_done 11 = .ok (.ireturn, 1) := dk_172 (dk_at dksX19_done_0 11 rfl rfl)
def dkwX2_init_0 : List UInt8 := [42, 183, 0, 3, 42, 16, 8, 188, 10, 181, 0, 9, 42, 16, 8, 188, 10, 181, 0, 15, 177]
abbrev dktX2_init_0 : List UInt8 := dkwX2_init_0 ++ []
theorem dksX2_init_0 : cX2_init.data.toList.drop 0 = dktX2_init_0 := by decide +kernel
theorem dX2_init_0 : decode cX2_init 0 = .ok (.aload_n 0, 1) := dk_42 (dk_at dksX2_init_0 0 rfl rfl)
theorem dX2_init_1 : decode cX2_init 1 = .ok (.invokespecial 3, 3) := dk_183 0 3 (dk_at dksX2_init_0 1 rfl rfl)
theorem dX2_init_4 : decode cX2_init 4 = .ok (.aload_n 0, 1) := dk_42 (dk_at dksX2_init_0 4 rfl rfl)
theorem dX2_init_5 : decode cX2_init 5 = .ok (.bipush 8, 2) := dk_16 8 (dk_at dksX2_init_0 5 rfl rfl)
theorem dX2_init_7 : decode cX2_init 7 = .ok (.newarray .int, 2) := dk_188_10 (dk_at dksX2_init_0 7 rfl rfl)
theorem dX2_init_9 : decode cX2_init 9 = .ok (.putfield 9, 3) := dk_181 0 9 (dk_at dksX2_init_0 9 rfl rfl)
theorem dX2_init_12 : decode cX2_init 12 = .ok (.aload_n 0, 1) := dk_42 (dk_at dksX2_init_0 12 rfl rfl)
theorem dX2_init_13 : decode cX2_init 13 = .ok (.bipush 8, 2) := dk_16 8 (dk_at dksX2_init_0 13 rfl rfl)
theorem dX2_init_15 : decode cX2_init 15 = .ok (.newarray .int, 2) := dk_188_10 (dk_at dksX2_init_0 15 rfl rfl)
theorem dX2_init_17 : decode cX2_init 17 = .ok (.putfield 15, 3) := dk_181 0 15 (dk_at dksX2_init_0 17 rfl rfl)
theorem dX2_init_20 : decode cX2_init 20 = .ok (.return_, 1) := dk_177 (dk_at dksX2_init_0 20 rfl rfl)
def dkwX2_like_3 : List UInt8 := [180, 0, 31, 184, 0, 34, 177]
abbrev dktX2_like_3 : List UInt8 := dkwX2_like_3 ++ []
def dkwX2_like_2 : List UInt8 := [180, 0, 9, 3, 42, 180, 0, 31, 184, 0, 34, 43, 180, 0, 15, 3, 42, 180, 0, 15, 3, 42]
abbrev dktX2_like_2 : List UInt8 := dkwX2_like_2 ++ dktX2_like_3
def dkwX2_like_1 : List UInt8 := [42, 43, 180, 0, 28, 181, 0, 28, 42, 43, 180, 0, 31, 181, 0, 31, 43, 180, 0, 9, 3, 42]
abbrev dktX2_like_1 : List UInt8 := dkwX2_like_1 ++ dktX2_like_2
def dkwX2_like_0 : List UInt8 := [42, 43, 180, 0, 18, 181, 0, 18, 42, 43, 180, 0, 22, 181, 0, 22, 42, 43, 180, 0, 25, 181, 0, 25]
abbrev dktX2_like_0 : List UInt8 := dkwX2_like_0 ++ dktX2_like_1
theorem dksX2_like_0 : cX2_like.data.toList.drop 0 = dktX2_like_0 := by decide +kernel
theorem dksX2_like_1 : cX2_like.data.toList.drop 24 = dktX2_like_1 := dk_seg dksX2_like_0 24 rfl rfl
theorem dksX2_like_2 : cX2_like.data.toList.drop 46 = dktX2_like_2 := dk_seg dksX2_like_1 22 rfl rfl
theorem dksX2_like_3 : cX2_like.data.toList.drop 68 = dktX2_like_3 := dk_seg dksX2_like_2 22 rfl rfl
theorem dX2_like_0 : decode cX2_like 0 = .ok (.aload_n 0, 1) := dk_42 (dk_at dksX2_like_0 0 rfl rfl)
theorem dX2_like_1 : decode cX2_like 1 = .ok (.aload_n 1, 1) := dk_43 (dk_at dksX2_like_0 1 rfl rfl)
theorem dX2_like_2 : decode cX2_like 2 = .ok (.getfield 18, 3) := dk_180 0 18 (dk_at dksX2_like_0 2 rfl rfl)
theorem dX2_like_5 : decode cX2_like 5 = .ok (.putfield 18, 3) := dk_181 0 18 (dk_at dksX2_like_0 5 rfl rfl)
theorem dX2_like_8 : decode cX2_like 8 = .ok (.aload_n 0, 1) := dk_42 (dk_at dksX2_like_0 8 rfl rfl)
theorem dX2_like_9 : decode cX2_like 9 = .ok (.aload_n 1, 1) := dk_43 (dk_at dksX2_like_0 9 rfl rfl)
theorem dX2_like_10 : decode cX2_like 10 = .ok (.getfield 22, 3) := dk_180 0 22 (dk_at dksX2_like_0 10 rfl rfl)
theorem dX2_like_13 : decode cX2_like 13 = .ok (.putfield 22, 3) := dk_181 0 22 (dk_at dksX2_like_0 13 rfl rfl)
theorem dX2_like_16 : decode cX2_like 16 = .ok (.aload_n 0, 1) := dk_42 (dk_at dksX2_like_0 16 rfl rfl)
theorem dX2_like_17 : decode cX2_like 17 = .ok (.aload_n 1, 1) := dk_43 (dk_at dksX2_like_0 17 rfl rfl)
theorem dX2_like_18 : decode cX2_like 18 = .ok (.getfield 25, 3) := dk_180 0 25 (dk_at dksX2_like_0 18 rfl rfl)
theorem dX2_like_21 : decode cX2_like 21 = .ok (.putfield 25, 3) := dk_181 0 25 (dk_at dksX2_like_0 21 rfl rfl)
theorem dX2_like_24 : decode cX2_like 24 = .ok (.aload_n 0, 1) := dk_42 (dk_at dksX2_like_1 0 rfl rfl)
theorem dX2_like_25 : decode cX2_like 25 = .ok (.aload_n 1, 1) := dk_43 (dk_at dksX2_like_1 1 rfl rfl)
theorem dX2_like_26 : decode cX2_like 26 = .ok (.getfield 28, 3) := dk_180 0 28 (dk_at dksX2_like_1 2 rfl rfl)
theorem dX2_like_29 : decode cX2_like 29 = .ok (.putfield 28, 3) := dk_181 0 28 (dk_at dksX2_like_1 5 rfl rfl)
theorem dX2_like_32 : decode cX2_like 32 = .ok (.aload_n 0, 1) := dk_42 (dk_at dksX2_like_1 8 rfl rfl)
theorem dX2_like_33 : decode cX2_like 33 = .ok (.aload_n 1, 1) := dk_43 (dk_at dksX2_like_1 9 rfl rfl)
theorem dX2_like_34 : decode cX2_like 34 = .ok (.getfield 31, 3) := dk_180 0 31 (dk_at dksX2_like_1 10 rfl rfl)
theorem dX2_like_37 : decode cX2_like 37 = .ok (.putfield 31, 3) := dk_181 0 31 (dk_at dksX2_like_1 13 rfl rfl)
theorem dX2_like_40 : decode cX2_like 40 = .ok (.aload_n 1, 1) := dk_43 (dk_at dksX2_like_1 16 rfl rfl)
theorem dX2_like_41 : decode cX2_like 41 = .ok (.getfield 9, 3) := dk_180 0 9 (dk_at dksX2_like_1 17 rfl rfl)
theorem dX2_like_44 : decode cX2_like 44 = .ok (.iconst 0, 1) := dk_3 (dk_at dksX2_like_1 20 rfl rfl)
theorem dX2_like_45 : decode cX2_like 45 = .ok (.aload_n 0, 1) := dk_42 (dk_at dksX2_like_1 21 rfl rfl)
theorem dX2_like_46 : decode cX2_like 46 = .ok (.getfield 9, 3) := dk_180 0 9 (dk_at dksX2_like_2 0 rfl rfl)
theorem dX2_like_49 : decode cX2_like 49 = .ok (.iconst 0, 1) := dk_3 (dk_at dksX2_like_2 3 rfl rfl)
theorem dX2_like_50 : decode cX2_like 50 = .ok (.aload_n 0, 1) := dk_42 (dk_at dksX2_like_2 4 rfl rfl)
theorem dX2_like_51 : decode cX2_like 51 = .ok (.getfield 31, 3) := dk_180 0 31 (dk_at dksX2_like_2 5 rfl rfl)
theorem dX2_like_54 : decode cX2_like 54 = .ok (.invokestatic 34, 3) := dk_184 0 34 (dk_at dksX2_like_2 8 rfl rfl)
theorem dX2_like_57 : decode cX2_like 57 = .ok (.aload_n 1, 1) := dk_43 (dk_at dksX2_like_2 11 rfl rfl)
theorem dX2_like_58 : decode cX2_like 58 = .ok (.getfield 15, 3) := dk_180 0 15 (dk_at dksX2_like_2 12 rfl rfl)
theorem dX2_like_61 : decode cX2_like 61 = .ok (.iconst 0, 1) := dk_3 (dk_at dksX2_like_2 15 rfl rfl)
theorem dX2_like_62 : decode cX2_like 62 = .ok (.aload_n 0, 1) := dk_42 (dk_at dksX2_like_2 16 rfl rfl)
theorem dX2_like_63 : decode cX2_like 63 = .ok (.getfield 15, 3) := dk_180 0 15 (dk_at dksX2_like_2 17 rfl rfl)
theorem dX2_like_66 : decode cX2_like 66 = .ok (.iconst 0, 1) := dk_3 (dk_at dksX2_like_2 20 rfl rfl)
theorem dX2_like_67 : decode cX2_like 67 = .ok (.aload_n 0, 1) := dk_42 (dk_at dksX2_like_2 21 rfl rfl)
theorem dX2_like_68 : decode cX2_like 68 = .ok (.getfield 31, 3) := dk_180 0 31 (dk_at dksX2_like_3 0 rfl rfl)
theorem dX2_like_71 : decode cX2_like 71 = .ok (.invokestatic 34, 3) := dk_184 0 34 (dk_at dksX2_like_3 3 rfl rfl)
theorem dX2_like_74 : decode cX2_like 74 = .ok (.return_, 1) := dk_177 (dk_at dksX2_like_3 6 rfl rfl)
def dkwX2_becomes_1 : List UInt8 := [181, 0, 31, 177]
abbrev dktX2_becomes_1 : List UInt8 := dkwX2_becomes_1 ++ []
def dkwX2_becomes_0 : List UInt8 := [42, 27, 181, 0, 18, 42, 3, 181, 0, 22, 42, 3, 181, 0, 25, 42, 3, 181, 0, 28, 42, 3]
abbrev dktX2_becomes_0 : List UInt8 := dkwX2_becomes_0 ++ dktX2_becomes_1
theorem dksX2_becomes_0 : cX2_becomes.data.toList.drop 0 = dktX2_becomes_0 := by decide +kernel
theorem dksX2_becomes_1 : cX2_becomes.data.toList.drop 22 = dktX2_becomes_1 := dk_seg dksX2_becomes_0 22 rfl rfl
theorem dX2_becomes_0 : decode cX2_becomes 0 = .ok (.aload_n 0, 1) := dk_42 (dk_at dksX2_becomes_0 0 rfl rfl)
theorem dX2_becomes_1 : decode cX2_becomes 1 = .ok (.iload_n 1, 1) := dk_27 (dk_at dksX2_becomes_0 1 rfl rfl)
theorem dX2_becomes_2 : decode cX2_becomes 2 = .ok (.putfield 18, 3) := dk_181 0 18 (dk_at dksX2_becomes_0 2 rfl rfl)
theorem dX2_becomes_5 : decode cX2_becomes 5 = .ok (.aload_n 0, 1) := dk_42 (dk_at dksX2_becomes_0 5 rfl rfl)
theorem dX2_becomes_6 : decode cX2_becomes 6 = .ok (.iconst 0, 1) := dk_3 (dk_at dksX2_becomes_0 6 rfl rfl)
theorem dX2_becomes_7 : decode cX2_becomes 7 = .ok (.putfield 22, 3) := dk_181 0 22 (dk_at dksX2_becomes_0 7 rfl rfl)
theorem dX2_becomes_10 : decode cX2_becomes 10 = .ok (.aload_n 0, 1) := dk_42 (dk_at dksX2_becomes_0 10 rfl rfl)
theorem dX2_becomes_11 : decode cX2_becomes 11 = .ok (.iconst 0, 1) := dk_3 (dk_at dksX2_becomes_0 11 rfl rfl)
theorem dX2_becomes_12 : decode cX2_becomes 12 = .ok (.putfield 25, 3) := dk_181 0 25 (dk_at dksX2_becomes_0 12 rfl rfl)
theorem dX2_becomes_15 : decode cX2_becomes 15 = .ok (.aload_n 0, 1) := dk_42 (dk_at dksX2_becomes_0 15 rfl rfl)
theorem dX2_becomes_16 : decode cX2_becomes 16 = .ok (.iconst 0, 1) := dk_3 (dk_at dksX2_becomes_0 16 rfl rfl)
theorem dX2_becomes_17 : decode cX2_becomes 17 = .ok (.putfield 28, 3) := dk_181 0 28 (dk_at dksX2_becomes_0 17 rfl rfl)
theorem dX2_becomes_20 : decode cX2_becomes 20 = .ok (.aload_n 0, 1) := dk_42 (dk_at dksX2_becomes_0 20 rfl rfl)
theorem dX2_becomes_21 : decode cX2_becomes 21 = .ok (.iconst 0, 1) := dk_3 (dk_at dksX2_becomes_0 21 rfl rfl)
theorem dX2_becomes_22 : decode cX2_becomes 22 = .ok (.putfield 31, 3) := dk_181 0 31 (dk_at dksX2_becomes_1 0 rfl rfl)
theorem dX2_becomes_25 : decode cX2_becomes 25 = .ok (.return_, 1) := dk_177 (dk_at dksX2_becomes_1 3 rfl rfl)
def dkwX2_tithe_0 : List UInt8 := [42, 180, 0, 22, 16, 10, 112, 27, 96, 16, 10, 108, 172]
abbrev dktX2_tithe_0 : List UInt8 := dkwX2_tithe_0 ++ []
theorem dksX2_tithe_0 : cX2_tithe.data.toList.drop 0 = dktX2_tithe_0 := by decide +kernel
theorem dX2_tithe_0 : decode cX2_tithe 0 = .ok (.aload_n 0, 1) := dk_42 (dk_at dksX2_tithe_0 0 rfl rfl)
theorem dX2_tithe_1 : decode cX2_tithe 1 = .ok (.getfield 22, 3) := dk_180 0 22 (dk_at dksX2_tithe_0 1 rfl rfl)
theorem dX2_tithe_4 : decode cX2_tithe 4 = .ok (.bipush 10, 2) := dk_16 10 (dk_at dksX2_tithe_0 4 rfl rfl)
theorem dX2_tithe_6 : decode cX2_tithe 6 = .ok (.irem, 1) := dk_112 (dk_at dksX2_tithe_0 6 rfl rfl)
theorem dX2_tithe_7 : decode cX2_tithe 7 = .ok (.iload_n 1, 1) := dk_27 (dk_at dksX2_tithe_0 7 rfl rfl)
theorem dX2_tithe_8 : decode cX2_tithe 8 = .ok (.iadd, 1) := dk_96 (dk_at dksX2_tithe_0 8 rfl rfl)
theorem dX2_tithe_9 : decode cX2_tithe 9 = .ok (.bipush 10, 2) := dk_16 10 (dk_at dksX2_tithe_0 9 rfl rfl)
theorem dX2_tithe_11 : decode cX2_tithe 11 = .ok (.idiv, 1) := dk_108 (dk_at dksX2_tithe_0 11 rfl rfl)
theorem dX2_tithe_12 : decode cX2_tithe 12 = .ok (.ireturn, 1) := dk_172 (dk_at dksX2_tithe_0 12 rfl rfl)
def dkwX2_owes_2 : List UInt8 := [4, 96, 181, 0, 31, 42, 180, 0, 15, 42, 180, 0, 31, 4, 100, 92, 46, 28, 96, 79, 177]
abbrev dktX2_owes_2 : List UInt8 := dkwX2_owes_2 ++ []
def dkwX2_owes_1 : List UInt8 := [180, 0, 9, 42, 180, 0, 31, 27, 79, 42, 180, 0, 15, 42, 180, 0, 31, 3, 79, 42, 89, 180, 0, 31]
abbrev dktX2_owes_1 : List UInt8 := dkwX2_owes_1 ++ dktX2_owes_2
def dkwX2_owes_0 : List UInt8 := [42, 180, 0, 31, 153, 0, 18, 42, 180, 0, 9, 42, 180, 0, 31, 4, 100, 46, 27, 159, 0, 33, 42]
abbrev dktX2_owes_0 : List UInt8 := dkwX2_owes_0 ++ dktX2_owes_1
theorem dksX2_owes_0 : cX2_owes.data.toList.drop 0 = dktX2_owes_0 := by decide +kernel
theorem dksX2_owes_1 : cX2_owes.data.toList.drop 23 = dktX2_owes_1 := dk_seg dksX2_owes_0 23 rfl rfl
theorem dksX2_owes_2 : cX2_owes.data.toList.drop 47 = dktX2_owes_2 := dk_seg dksX2_owes_1 24 rfl rfl
theorem dX2_owes_0 : decode cX2_owes 0 = .ok (.aload_n 0, 1) := dk_42 (dk_at dksX2_owes_0 0 rfl rfl)
theorem dX2_owes_1 : decode cX2_owes 1 = .ok (.getfield 31, 3) := dk_180 0 31 (dk_at dksX2_owes_0 1 rfl rfl)
theorem dX2_owes_4 : decode cX2_owes 4 = .ok (.ifCond .eq 18, 3) := dk_153 0 18 (dk_at dksX2_owes_0 4 rfl rfl)
theorem dX2_owes_7 : decode cX2_owes 7 = .ok (.aload_n 0, 1) := dk_42 (dk_at dksX2_owes_0 7 rfl rfl)
theorem dX2_owes_8 : decode cX2_owes 8 = .ok (.getfield 9, 3) := dk_180 0 9 (dk_at dksX2_owes_0 8 rfl rfl)
theorem dX2_owes_11 : decode cX2_owes 11 = .ok (.aload_n 0, 1) := dk_42 (dk_at dksX2_owes_0 11 rfl rfl)
theorem dX2_owes_12 : decode cX2_owes 12 = .ok (.getfield 31, 3) := dk_180 0 31 (dk_at dksX2_owes_0 12 rfl rfl)
theorem dX2_owes_15 : decode cX2_owes 15 = .ok (.iconst 1, 1) := dk_4 (dk_at dksX2_owes_0 15 rfl rfl)
theorem dX2_owes_16 : decode cX2_owes 16 = .ok (.isub, 1) := dk_100 (dk_at dksX2_owes_0 16 rfl rfl)
theorem dX2_owes_17 : decode cX2_owes 17 = .ok (.iaload, 1) := dk_46 (dk_at dksX2_owes_0 17 rfl rfl)
theorem dX2_owes_18 : decode cX2_owes 18 = .ok (.iload_n 1, 1) := dk_27 (dk_at dksX2_owes_0 18 rfl rfl)
theorem dX2_owes_19 : decode cX2_owes 19 = .ok (.if_icmp .eq 33, 3) := dk_159 0 33 (dk_at dksX2_owes_0 19 rfl rfl)
theorem dX2_owes_22 : decode cX2_owes 22 = .ok (.aload_n 0, 1) := dk_42 (dk_at dksX2_owes_0 22 rfl rfl)
theorem dX2_owes_23 : decode cX2_owes 23 = .ok (.getfield 9, 3) := dk_180 0 9 (dk_at dksX2_owes_1 0 rfl rfl)
theorem dX2_owes_26 : decode cX2_owes 26 = .ok (.aload_n 0, 1) := dk_42 (dk_at dksX2_owes_1 3 rfl rfl)
theorem dX2_owes_27 : decode cX2_owes 27 = .ok (.getfield 31, 3) := dk_180 0 31 (dk_at dksX2_owes_1 4 rfl rfl)
theorem dX2_owes_30 : decode cX2_owes 30 = .ok (.iload_n 1, 1) := dk_27 (dk_at dksX2_owes_1 7 rfl rfl)
theorem dX2_owes_31 : decode cX2_owes 31 = .ok (.iastore, 1) := dk_79 (dk_at dksX2_owes_1 8 rfl rfl)
theorem dX2_owes_32 : decode cX2_owes 32 = .ok (.aload_n 0, 1) := dk_42 (dk_at dksX2_owes_1 9 rfl rfl)
theorem dX2_owes_33 : decode cX2_owes 33 = .ok (.getfield 15, 3) := dk_180 0 15 (dk_at dksX2_owes_1 10 rfl rfl)
theorem dX2_owes_36 : decode cX2_owes 36 = .ok (.aload_n 0, 1) := dk_42 (dk_at dksX2_owes_1 13 rfl rfl)
theorem dX2_owes_37 : decode cX2_owes 37 = .ok (.getfield 31, 3) := dk_180 0 31 (dk_at dksX2_owes_1 14 rfl rfl)
theorem dX2_owes_40 : decode cX2_owes 40 = .ok (.iconst 0, 1) := dk_3 (dk_at dksX2_owes_1 17 rfl rfl)
theorem dX2_owes_41 : decode cX2_owes 41 = .ok (.iastore, 1) := dk_79 (dk_at dksX2_owes_1 18 rfl rfl)
theorem dX2_owes_42 : decode cX2_owes 42 = .ok (.aload_n 0, 1) := dk_42 (dk_at dksX2_owes_1 19 rfl rfl)
theorem dX2_owes_43 : decode cX2_owes 43 = .ok (.dup, 1) := dk_89 (dk_at dksX2_owes_1 20 rfl rfl)
theorem dX2_owes_44 : decode cX2_owes 44 = .ok (.getfield 31, 3) := dk_180 0 31 (dk_at dksX2_owes_1 21 rfl rfl)
theorem dX2_owes_47 : decode cX2_owes 47 = .ok (.iconst 1, 1) := dk_4 (dk_at dksX2_owes_2 0 rfl rfl)
theorem dX2_owes_48 : decode cX2_owes 48 = .ok (.iadd, 1) := dk_96 (dk_at dksX2_owes_2 1 rfl rfl)
theorem dX2_owes_49 : decode cX2_owes 49 = .ok (.putfield 31, 3) := dk_181 0 31 (dk_at dksX2_owes_2 2 rfl rfl)
theorem dX2_owes_52 : decode cX2_owes 52 = .ok (.aload_n 0, 1) := dk_42 (dk_at dksX2_owes_2 5 rfl rfl)
theorem dX2_owes_53 : decode cX2_owes 53 = .ok (.getfield 15, 3) := dk_180 0 15 (dk_at dksX2_owes_2 6 rfl rfl)
theorem dX2_owes_56 : decode cX2_owes 56 = .ok (.aload_n 0, 1) := dk_42 (dk_at dksX2_owes_2 9 rfl rfl)
theorem dX2_owes_57 : decode cX2_owes 57 = .ok (.getfield 31, 3) := dk_180 0 31 (dk_at dksX2_owes_2 10 rfl rfl)
theorem dX2_owes_60 : decode cX2_owes 60 = .ok (.iconst 1, 1) := dk_4 (dk_at dksX2_owes_2 13 rfl rfl)
theorem dX2_owes_61 : decode cX2_owes 61 = .ok (.isub, 1) := dk_100 (dk_at dksX2_owes_2 14 rfl rfl)
theorem dX2_owes_62 : decode cX2_owes 62 = .ok (.dup2, 1) := dk_92 (dk_at dksX2_owes_2 15 rfl rfl)
theorem dX2_owes_63 : decode cX2_owes 63 = .ok (.iaload, 1) := dk_46 (dk_at dksX2_owes_2 16 rfl rfl)
theorem dX2_owes_64 : decode cX2_owes 64 = .ok (.iload_n 2, 1) := dk_28 (dk_at dksX2_owes_2 17 rfl rfl)
theorem dX2_owes_65 : decode cX2_owes 65 = .ok (.iadd, 1) := dk_96 (dk_at dksX2_owes_2 18 rfl rfl)
theorem dX2_owes_66 : decode cX2_owes 66 = .ok (.iastore, 1) := dk_79 (dk_at dksX2_owes_2 19 rfl rfl)
theorem dX2_owes_67 : decode cX2_owes 67 = .ok (.return_, 1) := dk_177 (dk_at dksX2_owes_2 20 rfl rfl)
def dkwX2_due_1 : List UInt8 := [167, 255, 236, 27, 172]
abbrev dktX2_due_1 : List UInt8 := dkwX2_due_1 ++ []
def dkwX2_due_0 : List UInt8 := [3, 60, 3, 61, 28, 42, 180, 0, 31, 162, 0, 18, 27, 42, 180, 0, 15, 28, 46, 96, 60, 132, 2, 1]
abbrev dktX2_due_0 : List UInt8 := dkwX2_due_0 ++ dktX2_due_1
theorem dksX2_due_0 : cX2_due.data.toList.drop 0 = dktX2_due_0 := by decide +kernel
theorem dksX2_due_1 : cX2_due.data.toList.drop 24 = dktX2_due_1 := dk_seg dksX2_due_0 24 rfl rfl
theorem dX2_due_0 : decode cX2_due 0 = .ok (.iconst 0, 1) := dk_3 (dk_at dksX2_due_0 0 rfl rfl)
theorem dX2_due_1 : decode cX2_due 1 = .ok (.istore_n 1, 1) := dk_60 (dk_at dksX2_due_0 1 rfl rfl)
theorem dX2_due_2 : decode cX2_due 2 = .ok (.iconst 0, 1) := dk_3 (dk_at dksX2_due_0 2 rfl rfl)
theorem dX2_due_3 : decode cX2_due 3 = .ok (.istore_n 2, 1) := dk_61 (dk_at dksX2_due_0 3 rfl rfl)
theorem dX2_due_4 : decode cX2_due 4 = .ok (.iload_n 2, 1) := dk_28 (dk_at dksX2_due_0 4 rfl rfl)
theorem dX2_due_5 : decode cX2_due 5 = .ok (.aload_n 0, 1) := dk_42 (dk_at dksX2_due_0 5 rfl rfl)
theorem dX2_due_6 : decode cX2_due 6 = .ok (.getfield 31, 3) := dk_180 0 31 (dk_at dksX2_due_0 6 rfl rfl)
theorem dX2_due_9 : decode cX2_due 9 = .ok (.if_icmp .ge 18, 3) := dk_162 0 18 (dk_at dksX2_due_0 9 rfl rfl)
theorem dX2_due_12 : decode cX2_due 12 = .ok (.iload_n 1, 1) := dk_27 (dk_at dksX2_due_0 12 rfl rfl)
theorem dX2_due_13 : decode cX2_due 13 = .ok (.aload_n 0, 1) := dk_42 (dk_at dksX2_due_0 13 rfl rfl)
theorem dX2_due_14 : decode cX2_due 14 = .ok (.getfield 15, 3) := dk_180 0 15 (dk_at dksX2_due_0 14 rfl rfl)
theorem dX2_due_17 : decode cX2_due 17 = .ok (.iload_n 2, 1) := dk_28 (dk_at dksX2_due_0 17 rfl rfl)
theorem dX2_due_18 : decode cX2_due 18 = .ok (.iaload, 1) := dk_46 (dk_at dksX2_due_0 18 rfl rfl)
theorem dX2_due_19 : decode cX2_due 19 = .ok (.iadd, 1) := dk_96 (dk_at dksX2_due_0 19 rfl rfl)
theorem dX2_due_20 : decode cX2_due 20 = .ok (.istore_n 1, 1) := dk_60 (dk_at dksX2_due_0 20 rfl rfl)
theorem dX2_due_21 : decode cX2_due 21 = .ok (.iinc 2 1, 3) := dk_132 2 1 (dk_at dksX2_due_0 21 rfl rfl)
theorem dX2_due_24 : decode cX2_due 24 = .ok (.goto (-20), 3) := dk_167 255 236 (dk_at dksX2_due_1 0 rfl rfl)
theorem dX2_due_27 : decode cX2_due 27 = .ok (.iload_n 1, 1) := dk_27 (dk_at dksX2_due_1 3 rfl rfl)
theorem dX2_due_28 : decode cX2_due 28 = .ok (.ireturn, 1) := dk_172 (dk_at dksX2_due_1 4 rfl rfl)
def dkwX2_gives_2 : List UInt8 := [154, 0, 7, 42, 182, 0, 46, 167, 255, 214, 177]
abbrev dktX2_gives_2 : List UInt8 := dkwX2_gives_2 ++ []
def dkwX2_gives_1 : List UInt8 := [184, 0, 40, 62, 42, 180, 0, 15, 3, 92, 46, 29, 100, 79, 28, 29, 100, 61, 42, 180, 0, 15, 3, 46]
abbrev dktX2_gives_1 : List UInt8 := dkwX2_gives_1 ++ dktX2_gives_2
def dkwX2_gives_0 : List UInt8 := [27, 61, 42, 89, 180, 0, 25, 27, 96, 181, 0, 25, 28, 158, 0, 44, 28, 42, 180, 0, 15, 3, 46]
abbrev dktX2_gives_0 : List UInt8 := dkwX2_gives_0 ++ dktX2_gives_1
theorem dksX2_gives_0 : cX2_gives.data.toList.drop 0 = dktX2_gives_0 := by decide +kernel
theorem dksX2_gives_1 : cX2_gives.data.toList.drop 23 = dktX2_gives_1 := dk_seg dksX2_gives_0 23 rfl rfl
theorem dksX2_gives_2 : cX2_gives.data.toList.drop 47 = dktX2_gives_2 := dk_seg dksX2_gives_1 24 rfl rfl
theorem dX2_gives_0 : decode cX2_gives 0 = .ok (.iload_n 1, 1) := dk_27 (dk_at dksX2_gives_0 0 rfl rfl)
theorem dX2_gives_1 : decode cX2_gives 1 = .ok (.istore_n 2, 1) := dk_61 (dk_at dksX2_gives_0 1 rfl rfl)
theorem dX2_gives_2 : decode cX2_gives 2 = .ok (.aload_n 0, 1) := dk_42 (dk_at dksX2_gives_0 2 rfl rfl)
theorem dX2_gives_3 : decode cX2_gives 3 = .ok (.dup, 1) := dk_89 (dk_at dksX2_gives_0 3 rfl rfl)
theorem dX2_gives_4 : decode cX2_gives 4 = .ok (.getfield 25, 3) := dk_180 0 25 (dk_at dksX2_gives_0 4 rfl rfl)
theorem dX2_gives_7 : decode cX2_gives 7 = .ok (.iload_n 1, 1) := dk_27 (dk_at dksX2_gives_0 7 rfl rfl)
theorem dX2_gives_8 : decode cX2_gives 8 = .ok (.iadd, 1) := dk_96 (dk_at dksX2_gives_0 8 rfl rfl)
theorem dX2_gives_9 : decode cX2_gives 9 = .ok (.putfield 25, 3) := dk_181 0 25 (dk_at dksX2_gives_0 9 rfl rfl)
theorem dX2_gives_12 : decode cX2_gives 12 = .ok (.iload_n 2, 1) := dk_28 (dk_at dksX2_gives_0 12 rfl rfl)
theorem dX2_gives_13 : decode cX2_gives 13 = .ok (.ifCond .le 44, 3) := dk_158 0 44 (dk_at dksX2_gives_0 13 rfl rfl)
theorem dX2_gives_16 : decode cX2_gives 16 = .ok (.iload_n 2, 1) := dk_28 (dk_at dksX2_gives_0 16 rfl rfl)
theorem dX2_gives_17 : decode cX2_gives 17 = .ok (.aload_n 0, 1) := dk_42 (dk_at dksX2_gives_0 17 rfl rfl)
theorem dX2_gives_18 : decode cX2_gives 18 = .ok (.getfield 15, 3) := dk_180 0 15 (dk_at dksX2_gives_0 18 rfl rfl)
theorem dX2_gives_21 : decode cX2_gives 21 = .ok (.iconst 0, 1) := dk_3 (dk_at dksX2_gives_0 21 rfl rfl)
theorem dX2_gives_22 : decode cX2_gives 22 = .ok (.iaload, 1) := dk_46 (dk_at dksX2_gives_0 22 rfl rfl)
theorem dX2_gives_23 : decode cX2_gives 23 = .ok (.invokestatic 40, 3) := dk_184 0 40 (dk_at dksX2_gives_1 0 rfl rfl)
theorem dX2_gives_26 : decode cX2_gives 26 = .ok (.istore_n 3, 1) := dk_62 (dk_at dksX2_gives_1 3 rfl rfl)
theorem dX2_gives_27 : decode cX2_gives 27 = .ok (.aload_n 0, 1) := dk_42 (dk_at dksX2_gives_1 4 rfl rfl)
theorem dX2_gives_28 : decode cX2_gives 28 = .ok (.getfield 15, 3) := dk_180 0 15 (dk_at dksX2_gives_1 5 rfl rfl)
theorem dX2_gives_31 : decode cX2_gives 31 = .ok (.iconst 0, 1) := dk_3 (dk_at dksX2_gives_1 8 rfl rfl)
theorem dX2_gives_32 : decode cX2_gives 32 = .ok (.dup2, 1) := dk_92 (dk_at dksX2_gives_1 9 rfl rfl)
theorem dX2_gives_33 : decode cX2_gives 33 = .ok (.iaload, 1) := dk_46 (dk_at dksX2_gives_1 10 rfl rfl)
theorem dX2_gives_34 : decode cX2_gives 34 = .ok (.iload_n 3, 1) := dk_29 (dk_at dksX2_gives_1 11 rfl rfl)
theorem dX2_gives_35 : decode cX2_gives 35 = .ok (.isub, 1) := dk_100 (dk_at dksX2_gives_1 12 rfl rfl)
theorem dX2_gives_36 : decode cX2_gives 36 = .ok (.iastore, 1) := dk_79 (dk_at dksX2_gives_1 13 rfl rfl)
theorem dX2_gives_37 : decode cX2_gives 37 = .ok (.iload_n 2, 1) := dk_28 (dk_at dksX2_gives_1 14 rfl rfl)
theorem dX2_gives_38 : decode cX2_gives 38 = .ok (.iload_n 3, 1) := dk_29 (dk_at dksX2_gives_1 15 rfl rfl)
theorem dX2_gives_39 : decode cX2_gives 39 = .ok (.isub, 1) := dk_100 (dk_at dksX2_gives_1 16 rfl rfl)
theorem dX2_gives_40 : decode cX2_gives 40 = .ok (.istore_n 2, 1) := dk_61 (dk_at dksX2_gives_1 17 rfl rfl)
theorem dX2_gives_41 : decode cX2_gives 41 = .ok (.aload_n 0, 1) := dk_42 (dk_at dksX2_gives_1 18 rfl rfl)
theorem dX2_gives_42 : decode cX2_gives 42 = .ok (.getfield 15, 3) := dk_180 0 15 (dk_at dksX2_gives_1 19 rfl rfl)
theorem dX2_gives_45 : decode cX2_gives 45 = .ok (.iconst 0, 1) := dk_3 (dk_at dksX2_gives_1 22 rfl rfl)
theorem dX2_gives_46 : decode cX2_gives 46 = .ok (.iaload, 1) := dk_46 (dk_at dksX2_gives_1 23 rfl rfl)
theorem dX2_gives_47 : decode cX2_gives 47 = .ok (.ifCond .ne 7, 3) := dk_154 0 7 (dk_at dksX2_gives_2 0 rfl rfl)
theorem dX2_gives_50 : decode cX2_gives 50 = .ok (.aload_n 0, 1) := dk_42 (dk_at dksX2_gives_2 3 rfl rfl)
theorem dX2_gives_51 : decode cX2_gives 51 = .ok (.invokevirtual 46, 3) := dk_182 0 46 (dk_at dksX2_gives_2 4 rfl rfl)
theorem dX2_gives_54 : decode cX2_gives 54 = .ok (.goto (-42), 3) := dk_167 255 214 (dk_at dksX2_gives_2 7 rfl rfl)
theorem dX2_gives_57 : decode cX2_gives 57 = .ok (.return_, 1) := dk_177 (dk_at dksX2_gives_2 10 rfl rfl)
def dkwX2_dropsFirst_2 : List UInt8 := [132, 1, 1, 167, 255, 217, 177]
abbrev dktX2_dropsFirst_2 : List UInt8 := dkwX2_dropsFirst_2 ++ []
def dkwX2_dropsFirst_1 : List UInt8 := [27, 42, 180, 0, 9, 27, 4, 96, 46, 79, 42, 180, 0, 15, 27, 42, 180, 0, 15, 27, 4, 96, 46, 79]
abbrev dktX2_dropsFirst_1 : List UInt8 := dkwX2_dropsFirst_1 ++ dktX2_dropsFirst_2
def dkwX2_dropsFirst_0 : List UInt8 := [42, 89, 180, 0, 31, 4, 100, 181, 0, 31, 3, 60, 27, 42, 180, 0, 31, 162, 0, 37, 42, 180, 0, 9]
abbrev dktX2_dropsFirst_0 : List UInt8 := dkwX2_dropsFirst_0 ++ dktX2_dropsFirst_1
theorem dksX2_dropsFirst_0 : cX2_dropsFirst.data.toList.drop 0 = dktX2_dropsFirst_0 := by decide +kernel
theorem dksX2_dropsFirst_1 : cX2_dropsFirst.data.toList.drop 24 = dktX2_dropsFirst_1 := dk_seg dksX2_dropsFirst_0 24 rfl rfl
theorem dksX2_dropsFirst_2 : cX2_dropsFirst.data.toList.drop 48 = dktX2_dropsFirst_2 := dk_seg dksX2_dropsFirst_1 24 rfl rfl
theorem dX2_dropsFirst_0 : decode cX2_dropsFirst 0 = .ok (.aload_n 0, 1) := dk_42 (dk_at dksX2_dropsFirst_0 0 rfl rfl)
theorem dX2_dropsFirst_1 : decode cX2_dropsFirst 1 = .ok (.dup, 1) := dk_89 (dk_at dksX2_dropsFirst_0 1 rfl rfl)
theorem dX2_dropsFirst_2 : decode cX2_dropsFirst 2 = .ok (.getfield 31, 3) := dk_180 0 31 (dk_at dksX2_dropsFirst_0 2 rfl rfl)
theorem dX2_dropsFirst_5 : decode cX2_dropsFirst 5 = .ok (.iconst 1, 1) := dk_4 (dk_at dksX2_dropsFirst_0 5 rfl rfl)
theorem dX2_dropsFirst_6 : decode cX2_dropsFirst 6 = .ok (.isub, 1) := dk_100 (dk_at dksX2_dropsFirst_0 6 rfl rfl)
theorem dX2_dropsFirst_7 : decode cX2_dropsFirst 7 = .ok (.putfield 31, 3) := dk_181 0 31 (dk_at dksX2_dropsFirst_0 7 rfl rfl)
theorem dX2_dropsFirst_10 : decode cX2_dropsFirst 10 = .ok (.iconst 0, 1) := dk_3 (dk_at dksX2_dropsFirst_0 10 rfl rfl)
theorem dX2_dropsFirst_11 : decode cX2_dropsFirst 11 = .ok (.istore_n 1, 1) := dk_60 (dk_at dksX2_dropsFirst_0 11 rfl rfl)
theorem dX2_dropsFirst_12 : decode cX2_dropsFirst 12 = .ok (.iload_n 1, 1) := dk_27 (dk_at dksX2_dropsFirst_0 12 rfl rfl)
theorem dX2_dropsFirst_13 : decode cX2_dropsFirst 13 = .ok (.aload_n 0, 1) := dk_42 (dk_at dksX2_dropsFirst_0 13 rfl rfl)
theorem dX2_dropsFirst_14 : decode cX2_dropsFirst 14 = .ok (.getfield 31, 3) := dk_180 0 31 (dk_at dksX2_dropsFirst_0 14 rfl rfl)
theorem dX2_dropsFirst_17 : decode cX2_dropsFirst 17 = .ok (.if_icmp .ge 37, 3) := dk_162 0 37 (dk_at dksX2_dropsFirst_0 17 rfl rfl)
theorem dX2_dropsFirst_20 : decode cX2_dropsFirst 20 = .ok (.aload_n 0, 1) := dk_42 (dk_at dksX2_dropsFirst_0 20 rfl rfl)
theorem dX2_dropsFirst_21 : decode cX2_dropsFirst 21 = .ok (.getfield 9, 3) := dk_180 0 9 (dk_at dksX2_dropsFirst_0 21 rfl rfl)
theorem dX2_dropsFirst_24 : decode cX2_dropsFirst 24 = .ok (.iload_n 1, 1) := dk_27 (dk_at dksX2_dropsFirst_1 0 rfl rfl)
theorem dX2_dropsFirst_25 : decode cX2_dropsFirst 25 = .ok (.aload_n 0, 1) := dk_42 (dk_at dksX2_dropsFirst_1 1 rfl rfl)
theorem dX2_dropsFirst_26 : decode cX2_dropsFirst 26 = .ok (.getfield 9, 3) := dk_180 0 9 (dk_at dksX2_dropsFirst_1 2 rfl rfl)
theorem dX2_dropsFirst_29 : decode cX2_dropsFirst 29 = .ok (.iload_n 1, 1) := dk_27 (dk_at dksX2_dropsFirst_1 5 rfl rfl)
theorem dX2_dropsFirst_30 : decode cX2_dropsFirst 30 = .ok (.iconst 1, 1) := dk_4 (dk_at dksX2_dropsFirst_1 6 rfl rfl)
theorem dX2_dropsFirst_31 : decode cX2_dropsFirst 31 = .ok (.iadd, 1) := dk_96 (dk_at dksX2_dropsFirst_1 7 rfl rfl)
theorem dX2_dropsFirst_32 : decode cX2_dropsFirst 32 = .ok (.iaload, 1) := dk_46 (dk_at dksX2_dropsFirst_1 8 rfl rfl)
theorem dX2_dropsFirst_33 : decode cX2_dropsFirst 33 = .ok (.iastore, 1) := dk_79 (dk_at dksX2_dropsFirst_1 9 rfl rfl)
theorem dX2_dropsFirst_34 : decode cX2_dropsFirst 34 = .ok (.aload_n 0, 1) := dk_42 (dk_at dksX2_dropsFirst_1 10 rfl rfl)
theorem dX2_dropsFirst_35 : decode cX2_dropsFirst 35 = .ok (.getfield 15, 3) := dk_180 0 15 (dk_at dksX2_dropsFirst_1 11 rfl rfl)
theorem dX2_dropsFirst_38 : decode cX2_dropsFirst 38 = .ok (.iload_n 1, 1) := dk_27 (dk_at dksX2_dropsFirst_1 14 rfl rfl)
theorem dX2_dropsFirst_39 : decode cX2_dropsFirst 39 = .ok (.aload_n 0, 1) := dk_42 (dk_at dksX2_dropsFirst_1 15 rfl rfl)
theorem dX2_dropsFirst_40 : decode cX2_dropsFirst 40 = .ok (.getfield 15, 3) := dk_180 0 15 (dk_at dksX2_dropsFirst_1 16 rfl rfl)
theorem dX2_dropsFirst_43 : decode cX2_dropsFirst 43 = .ok (.iload_n 1, 1) := dk_27 (dk_at dksX2_dropsFirst_1 19 rfl rfl)
theorem dX2_dropsFirst_44 : decode cX2_dropsFirst 44 = .ok (.iconst 1, 1) := dk_4 (dk_at dksX2_dropsFirst_1 20 rfl rfl)
theorem dX2_dropsFirst_45 : decode cX2_dropsFirst 45 = .ok (.iadd, 1) := dk_96 (dk_at dksX2_dropsFirst_1 21 rfl rfl)
theorem dX2_dropsFirst_46 : decode cX2_dropsFirst 46 = .ok (.iaload, 1) := dk_46 (dk_at dksX2_dropsFirst_1 22 rfl rfl)
theorem dX2_dropsFirst_47 : decode cX2_dropsFirst 47 = .ok (.iastore, 1) := dk_79 (dk_at dksX2_dropsFirst_1 23 rfl rfl)
theorem dX2_dropsFirst_48 : decode cX2_dropsFirst 48 = .ok (.iinc 1 1, 3) := dk_132 1 1 (dk_at dksX2_dropsFirst_2 0 rfl rfl)
theorem dX2_dropsFirst_51 : decode cX2_dropsFirst 51 = .ok (.goto (-39), 3) := dk_167 255 217 (dk_at dksX2_dropsFirst_2 3 rfl rfl)
theorem dX2_dropsFirst_54 : decode cX2_dropsFirst 54 = .ok (.return_, 1) := dk_177 (dk_at dksX2_dropsFirst_2 6 rfl rfl)
def dkwX2_passes_1 : List UInt8 := [180, 0, 28, 42, 180, 0, 15, 3, 46, 96, 181, 0, 28, 42, 182, 0, 46, 167, 255, 217, 177]
abbrev dktX2_passes_1 : List UInt8 := dkwX2_passes_1 ++ []
def dkwX2_passes_0 : List UInt8 := [42, 180, 0, 31, 158, 0, 38, 42, 180, 0, 9, 3, 46, 27, 16, 7, 100, 163, 0, 25, 42, 89]
abbrev dktX2_passes_0 : List UInt8 := dkwX2_passes_0 ++ dktX2_passes_1
theorem dksX2_passes_0 : cX2_passes.data.toList.drop 0 = dktX2_passes_0 := by decide +kernel
theorem dksX2_passes_1 : cX2_passes.data.toList.drop 22 = dktX2_passes_1 := dk_seg dksX2_passes_0 22 rfl rfl
theorem dX2_passes_0 : decode cX2_passes 0 = .ok (.aload_n 0, 1) := dk_42 (dk_at dksX2_passes_0 0 rfl rfl)
theorem dX2_passes_1 : decode cX2_passes 1 = .ok (.getfield 31, 3) := dk_180 0 31 (dk_at dksX2_passes_0 1 rfl rfl)
theorem dX2_passes_4 : decode cX2_passes 4 = .ok (.ifCond .le 38, 3) := dk_158 0 38 (dk_at dksX2_passes_0 4 rfl rfl)
theorem dX2_passes_7 : decode cX2_passes 7 = .ok (.aload_n 0, 1) := dk_42 (dk_at dksX2_passes_0 7 rfl rfl)
theorem dX2_passes_8 : decode cX2_passes 8 = .ok (.getfield 9, 3) := dk_180 0 9 (dk_at dksX2_passes_0 8 rfl rfl)
theorem dX2_passes_11 : decode cX2_passes 11 = .ok (.iconst 0, 1) := dk_3 (dk_at dksX2_passes_0 11 rfl rfl)
theorem dX2_passes_12 : decode cX2_passes 12 = .ok (.iaload, 1) := dk_46 (dk_at dksX2_passes_0 12 rfl rfl)
theorem dX2_passes_13 : decode cX2_passes 13 = .ok (.iload_n 1, 1) := dk_27 (dk_at dksX2_passes_0 13 rfl rfl)
theorem dX2_passes_14 : decode cX2_passes 14 = .ok (.bipush 7, 2) := dk_16 7 (dk_at dksX2_passes_0 14 rfl rfl)
theorem dX2_passes_16 : decode cX2_passes 16 = .ok (.isub, 1) := dk_100 (dk_at dksX2_passes_0 16 rfl rfl)
theorem dX2_passes_17 : decode cX2_passes 17 = .ok (.if_icmp .gt 25, 3) := dk_163 0 25 (dk_at dksX2_passes_0 17 rfl rfl)
theorem dX2_passes_20 : decode cX2_passes 20 = .ok (.aload_n 0, 1) := dk_42 (dk_at dksX2_passes_0 20 rfl rfl)
theorem dX2_passes_21 : decode cX2_passes 21 = .ok (.dup, 1) := dk_89 (dk_at dksX2_passes_0 21 rfl rfl)
theorem dX2_passes_22 : decode cX2_passes 22 = .ok (.getfield 28, 3) := dk_180 0 28 (dk_at dksX2_passes_1 0 rfl rfl)
theorem dX2_passes_25 : decode cX2_passes 25 = .ok (.aload_n 0, 1) := dk_42 (dk_at dksX2_passes_1 3 rfl rfl)
theorem dX2_passes_26 : decode cX2_passes 26 = .ok (.getfield 15, 3) := dk_180 0 15 (dk_at dksX2_passes_1 4 rfl rfl)
theorem dX2_passes_29 : decode cX2_passes 29 = .ok (.iconst 0, 1) := dk_3 (dk_at dksX2_passes_1 7 rfl rfl)
theorem dX2_passes_30 : decode cX2_passes 30 = .ok (.iaload, 1) := dk_46 (dk_at dksX2_passes_1 8 rfl rfl)
theorem dX2_passes_31 : decode cX2_passes 31 = .ok (.iadd, 1) := dk_96 (dk_at dksX2_passes_1 9 rfl rfl)
theorem dX2_passes_32 : decode cX2_passes 32 = .ok (.putfield 28, 3) := dk_181 0 28 (dk_at dksX2_passes_1 10 rfl rfl)
theorem dX2_passes_35 : decode cX2_passes 35 = .ok (.aload_n 0, 1) := dk_42 (dk_at dksX2_passes_1 13 rfl rfl)
theorem dX2_passes_36 : decode cX2_passes 36 = .ok (.invokevirtual 46, 3) := dk_182 0 46 (dk_at dksX2_passes_1 14 rfl rfl)
theorem dX2_passes_39 : decode cX2_passes 39 = .ok (.goto (-39), 3) := dk_167 255 217 (dk_at dksX2_passes_1 17 rfl rfl)
theorem dX2_passes_42 : decode cX2_passes 42 = .ok (.return_, 1) := dk_177 (dk_at dksX2_passes_1 20 rfl rfl)
def dkwX20_init_0 : List UInt8 := [42, 43, 181, 0, 1, 42, 183, 0, 7, 177]
abbrev dktX20_init_0 : List UInt8 := dkwX20_init_0 ++ []
theorem dksX20_init_0 : cX20_init.data.toList.drop 0 = dktX20_init_0 := by decide +kernel
theorem dX20_init_0 : decode cX20_init 0 = .ok (.aload_n 0, 1) := dk_42 (dk_at dksX20_init_0 0 rfl rfl)
theorem dX20_init_1 : decode cX20_init 1 = .ok (.aload_n 1, 1) := dk_43 (dk_at dksX20_init_0 1 rfl rfl)
theorem dX20_init_2 : decode cX20_init 2 = .ok (.putfield 1, 3) := dk_181 0 1 (dk_at dksX20_init_0 2 rfl rfl)
theorem dX20_init_5 : decode cX20_init 5 = .ok (.aload_n 0, 1) := dk_42 (dk_at dksX20_init_0 5 rfl rfl)
theorem dX20_init_6 : decode cX20_init 6 = .ok (.invokespecial 7, 3) := dk_183 0 7 (dk_at dksX20_init_0 6 rfl rfl)
theorem dX20_init_9 : decode cX20_init 9 = .ok (.return_, 1) := dk_177 (dk_at dksX20_init_0 9 rfl rfl)
def dkwX20_hasNext_0 : List UInt8 := [42, 180, 0, 13, 42, 180, 0, 1, 180, 0, 17, 162, 0, 7, 4, 167, 0, 4, 3, 172]
abbrev dktX20_hasNext_0 : List UInt8 := dkwX20_hasNext_0 ++ []
theorem dksX20_hasNext_0 : cX20_hasNext.data.toList.drop 0 = dktX20_hasNext_0 := by decide +kernel
theorem dX20_hasNext_0 : decode cX20_hasNext 0 = .ok (.aload_n 0, 1) := dk_42 (dk_at dksX20_hasNext_0 0 rfl rfl)
theorem dX20_hasNext_1 : decode cX20_hasNext 1 = .ok (.getfield 13, 3) := dk_180 0 13 (dk_at dksX20_hasNext_0 1 rfl rfl)
theorem dX20_hasNext_4 : decode cX20_hasNext 4 = .ok (.aload_n 0, 1) := dk_42 (dk_at dksX20_hasNext_0 4 rfl rfl)
theorem dX20_hasNext_5 : decode cX20_hasNext 5 = .ok (.getfield 1, 3) := dk_180 0 1 (dk_at dksX20_hasNext_0 5 rfl rfl)
theorem dX20_hasNext_8 : decode cX20_hasNext 8 = .ok (.getfield 17, 3) := dk_180 0 17 (dk_at dksX20_hasNext_0 8 rfl rfl)
theorem dX20_hasNext_11 : decode cX20_hasNext 11 = .ok (.if_icmp .ge 7, 3) := dk_162 0 7 (dk_at dksX20_hasNext_0 11 rfl rfl)
theorem dX20_hasNext_14 : decode cX20_hasNext 14 = .ok (.iconst 1, 1) := dk_4 (dk_at dksX20_hasNext_0 14 rfl rfl)
theorem dX20_hasNext_15 : decode cX20_hasNext 15 = .ok (.goto 4, 3) := dk_167 0 4 (dk_at dksX20_hasNext_0 15 rfl rfl)
theorem dX20_hasNext_18 : decode cX20_hasNext 18 = .ok (.iconst 0, 1) := dk_3 (dk_at dksX20_hasNext_0 18 rfl rfl)
theorem dX20_hasNext_19 : decode cX20_hasNext 19 = .ok (.ireturn, 1) := dk_172 (dk_at dksX20_hasNext_0 19 rfl rfl)
theorem dX20_next_0 : decode cX20_next 0 = .ok (.aload_n 0, 1) := by decide +kernel
theorem dX20_next_1 : decode cX20_next 1 = .ok (.invokevirtual 33, 3) := by decide +kernel
theorem dX20_next_4 : decode cX20_next 4 = .ok (.areturn, 1) := by decide +kernel
def dkwX20_next_2_1 : List UInt8 := [181, 0, 13, 42, 180, 0, 1, 180, 0, 29, 42, 180, 0, 13, 4, 100, 50, 176]
abbrev dktX20_next_2_1 : List UInt8 := dkwX20_next_2_1 ++ []
def dkwX20_next_2_0 : List UInt8 := [42, 182, 0, 22, 154, 0, 11, 187, 0, 26, 89, 183, 0, 28, 191, 42, 89, 180, 0, 13, 4, 96]
abbrev dktX20_next_2_0 : List UInt8 := dkwX20_next_2_0 ++ dktX20_next_2_1
theorem dksX20_next_2_0 : cX20_next_2.data.toList.drop 0 = dktX20_next_2_0 := by decide +kernel
theorem dksX20_next_2_1 : cX20_next_2.data.toList.drop 22 = dktX20_next_2_1 := dk_seg dksX20_next_2_0 22 rfl rfl
theorem dX20_next_2_0 : decode cX20_next_2 0 = .ok (.aload_n 0, 1) := dk_42 (dk_at dksX20_next_2_0 0 rfl rfl)
theorem dX20_next_2_1 : decode cX20_next_2 1 = .ok (.invokevirtual 22, 3) := dk_182 0 22 (dk_at dksX20_next_2_0 1 rfl rfl)
theorem dX20_next_2_4 : decode cX20_next_2 4 = .ok (.ifCond .ne 11, 3) := dk_154 0 11 (dk_at dksX20_next_2_0 4 rfl rfl)
theorem dX20_next_2_7 : decode cX20_next_2 7 = .ok (.new 26, 3) := dk_187 0 26 (dk_at dksX20_next_2_0 7 rfl rfl)
theorem dX20_next_2_10 : decode cX20_next_2 10 = .ok (.dup, 1) := dk_89 (dk_at dksX20_next_2_0 10 rfl rfl)
theorem dX20_next_2_11 : decode cX20_next_2 11 = .ok (.invokespecial 28, 3) := dk_183 0 28 (dk_at dksX20_next_2_0 11 rfl rfl)
theorem dX20_next_2_14 : decode cX20_next_2 14 = .ok (.athrow, 1) := dk_191 (dk_at dksX20_next_2_0 14 rfl rfl)
theorem dX20_next_2_15 : decode cX20_next_2 15 = .ok (.aload_n 0, 1) := dk_42 (dk_at dksX20_next_2_0 15 rfl rfl)
theorem dX20_next_2_16 : decode cX20_next_2 16 = .ok (.dup, 1) := dk_89 (dk_at dksX20_next_2_0 16 rfl rfl)
theorem dX20_next_2_17 : decode cX20_next_2 17 = .ok (.getfield 13, 3) := dk_180 0 13 (dk_at dksX20_next_2_0 17 rfl rfl)
theorem dX20_next_2_20 : decode cX20_next_2 20 = .ok (.iconst 1, 1) := dk_4 (dk_at dksX20_next_2_0 20 rfl rfl)
theorem dX20_next_2_21 : decode cX20_next_2 21 = .ok (.iadd, 1) := dk_96 (dk_at dksX20_next_2_0 21 rfl rfl)
theorem dX20_next_2_22 : decode cX20_next_2 22 = .ok (.putfield 13, 3) := dk_181 0 13 (dk_at dksX20_next_2_1 0 rfl rfl)
theorem dX20_next_2_25 : decode cX20_next_2 25 = .ok (.aload_n 0, 1) := dk_42 (dk_at dksX20_next_2_1 3 rfl rfl)
theorem dX20_next_2_26 : decode cX20_next_2 26 = .ok (.getfield 1, 3) := dk_180 0 1 (dk_at dksX20_next_2_1 4 rfl rfl)
theorem dX20_next_2_29 : decode cX20_next_2 29 = .ok (.getfield 29, 3) := dk_180 0 29 (dk_at dksX20_next_2_1 7 rfl rfl)
theorem dX20_next_2_32 : decode cX20_next_2 32 = .ok (.aload_n 0, 1) := dk_42 (dk_at dksX20_next_2_1 10 rfl rfl)
theorem dX20_next_2_33 : decode cX20_next_2 33 = .ok (.getfield 13, 3) := dk_180 0 13 (dk_at dksX20_next_2_1 11 rfl rfl)
theorem dX20_next_2_36 : decode cX20_next_2 36 = .ok (.iconst 1, 1) := dk_4 (dk_at dksX20_next_2_1 14 rfl rfl)
theorem dX20_next_2_37 : decode cX20_next_2 37 = .ok (.isub, 1) := dk_100 (dk_at dksX20_next_2_1 15 rfl rfl)
theorem dX20_next_2_38 : decode cX20_next_2 38 = .ok (.aaload, 1) := dk_50 (dk_at dksX20_next_2_1 16 rfl rfl)
theorem dX20_next_2_39 : decode cX20_next_2 39 = .ok (.areturn, 1) := dk_176 (dk_at dksX20_next_2_1 17 rfl rfl)
def dkwX3_init_1 : List UInt8 := [180, 0, 11, 27, 187, 0, 9, 89, 183, 0, 17, 83, 132, 1, 1, 167, 255, 234, 177]
abbrev dktX3_init_1 : List UInt8 := dkwX3_init_1 ++ []
def dkwX3_init_0 : List UInt8 := [42, 183, 0, 3, 42, 16, 60, 189, 0, 9, 181, 0, 11, 3, 60, 27, 16, 60, 162, 0, 22, 42]
abbrev dktX3_init_0 : List UInt8 := dkwX3_init_0 ++ dktX3_init_1
theorem dksX3_init_0 : cX3_init.data.toList.drop 0 = dktX3_init_0 := by decide +kernel
theorem dksX3_init_1 : cX3_init.data.toList.drop 22 = dktX3_init_1 := dk_seg dksX3_init_0 22 rfl rfl
theorem dX3_init_0 : decode cX3_init 0 = .ok (.aload_n 0, 1) := dk_42 (dk_at dksX3_init_0 0 rfl rfl)
theorem dX3_init_1 : decode cX3_init 1 = .ok (.invokespecial 3, 3) := dk_183 0 3 (dk_at dksX3_init_0 1 rfl rfl)
theorem dX3_init_4 : decode cX3_init 4 = .ok (.aload_n 0, 1) := dk_42 (dk_at dksX3_init_0 4 rfl rfl)
theorem dX3_init_5 : decode cX3_init 5 = .ok (.bipush 60, 2) := dk_16 60 (dk_at dksX3_init_0 5 rfl rfl)
theorem dX3_init_7 : decode cX3_init 7 = .ok (.anewarray 9, 3) := dk_189 0 9 (dk_at dksX3_init_0 7 rfl rfl)
theorem dX3_init_10 : decode cX3_init 10 = .ok (.putfield 11, 3) := dk_181 0 11 (dk_at dksX3_init_0 10 rfl rfl)
theorem dX3_init_13 : decode cX3_init 13 = .ok (.iconst 0, 1) := dk_3 (dk_at dksX3_init_0 13 rfl rfl)
theorem dX3_init_14 : decode cX3_init 14 = .ok (.istore_n 1, 1) := dk_60 (dk_at dksX3_init_0 14 rfl rfl)
theorem dX3_init_15 : decode cX3_init 15 = .ok (.iload_n 1, 1) := dk_27 (dk_at dksX3_init_0 15 rfl rfl)
theorem dX3_init_16 : decode cX3_init 16 = .ok (.bipush 60, 2) := dk_16 60 (dk_at dksX3_init_0 16 rfl rfl)
theorem dX3_init_18 : decode cX3_init 18 = .ok (.if_icmp .ge 22, 3) := dk_162 0 22 (dk_at dksX3_init_0 18 rfl rfl)
theorem dX3_init_21 : decode cX3_init 21 = .ok (.aload_n 0, 1) := dk_42 (dk_at dksX3_init_0 21 rfl rfl)
theorem dX3_init_22 : decode cX3_init 22 = .ok (.getfield 11, 3) := dk_180 0 11 (dk_at dksX3_init_1 0 rfl rfl)
theorem dX3_init_25 : decode cX3_init 25 = .ok (.iload_n 1, 1) := dk_27 (dk_at dksX3_init_1 3 rfl rfl)
theorem dX3_init_26 : decode cX3_init 26 = .ok (.new 9, 3) := dk_187 0 9 (dk_at dksX3_init_1 4 rfl rfl)
theorem dX3_init_29 : decode cX3_init 29 = .ok (.dup, 1) := dk_89 (dk_at dksX3_init_1 7 rfl rfl)
theorem dX3_init_30 : decode cX3_init 30 = .ok (.invokespecial 17, 3) := dk_183 0 17 (dk_at dksX3_init_1 8 rfl rfl)
theorem dX3_init_33 : decode cX3_init 33 = .ok (.aastore, 1) := dk_83 (dk_at dksX3_init_1 11 rfl rfl)
theorem dX3_init_34 : decode cX3_init 34 = .ok (.iinc 1 1, 3) := dk_132 1 1 (dk_at dksX3_init_1 12 rfl rfl)
theorem dX3_init_37 : decode cX3_init 37 = .ok (.goto (-22), 3) := dk_167 255 234 (dk_at dksX3_init_1 15 rfl rfl)
theorem dX3_init_40 : decode cX3_init 40 = .ok (.return_, 1) := dk_177 (dk_at dksX3_init_1 18 rfl rfl)
def dkwX3_clear_0 : List UInt8 := [42, 3, 181, 0, 23, 42, 3, 181, 0, 27, 177]
abbrev dktX3_clear_0 : List UInt8 := dkwX3_clear_0 ++ []
theorem dksX3_clear_0 : cX3_clear.data.toList.drop 0 = dktX3_clear_0 := by decide +kernel
theorem dX3_clear_0 : decode cX3_clear 0 = .ok (.aload_n 0, 1) := dk_42 (dk_at dksX3_clear_0 0 rfl rfl)
theorem dX3_clear_1 : decode cX3_clear 1 = .ok (.iconst 0, 1) := dk_3 (dk_at dksX3_clear_0 1 rfl rfl)
theorem dX3_clear_2 : decode cX3_clear 2 = .ok (.putfield 23, 3) := dk_181 0 23 (dk_at dksX3_clear_0 2 rfl rfl)
theorem dX3_clear_5 : decode cX3_clear 5 = .ok (.aload_n 0, 1) := dk_42 (dk_at dksX3_clear_0 5 rfl rfl)
theorem dX3_clear_6 : decode cX3_clear 6 = .ok (.iconst 0, 1) := dk_3 (dk_at dksX3_clear_0 6 rfl rfl)
theorem dX3_clear_7 : decode cX3_clear 7 = .ok (.putfield 27, 3) := dk_181 0 27 (dk_at dksX3_clear_0 7 rfl rfl)
theorem dX3_clear_10 : decode cX3_clear 10 = .ok (.return_, 1) := dk_177 (dk_at dksX3_clear_0 10 rfl rfl)
def dkwX3_like_2 : List UInt8 := [180, 0, 33, 182, 0, 34, 132, 2, 1, 167, 255, 218, 177]
abbrev dktX3_like_2 : List UInt8 := dkwX3_like_2 ++ []
def dkwX3_like_1 : List UInt8 := [162, 0, 36, 42, 180, 0, 11, 28, 50, 43, 180, 0, 11, 28, 50, 180, 0, 30, 43, 180, 0, 11, 28, 50]
abbrev dktX3_like_1 : List UInt8 := dkwX3_like_1 ++ dktX3_like_2
def dkwX3_like_0 : List UInt8 := [42, 43, 180, 0, 23, 181, 0, 23, 42, 43, 180, 0, 27, 181, 0, 27, 3, 61, 28, 42, 180, 0, 23]
abbrev dktX3_like_0 : List UInt8 := dkwX3_like_0 ++ dktX3_like_1
theorem dksX3_like_0 : cX3_like.data.toList.drop 0 = dktX3_like_0 := by decide +kernel
theorem dksX3_like_1 : cX3_like.data.toList.drop 23 = dktX3_like_1 := dk_seg dksX3_like_0 23 rfl rfl
theorem dksX3_like_2 : cX3_like.data.toList.drop 47 = dktX3_like_2 := dk_seg dksX3_like_1 24 rfl rfl
theorem dX3_like_0 : decode cX3_like 0 = .ok (.aload_n 0, 1) := dk_42 (dk_at dksX3_like_0 0 rfl rfl)
theorem dX3_like_1 : decode cX3_like 1 = .ok (.aload_n 1, 1) := dk_43 (dk_at dksX3_like_0 1 rfl rfl)
theorem dX3_like_2 : decode cX3_like 2 = .ok (.getfield 23, 3) := dk_180 0 23 (dk_at dksX3_like_0 2 rfl rfl)
theorem dX3_like_5 : decode cX3_like 5 = .ok (.putfield 23, 3) := dk_181 0 23 (dk_at dksX3_like_0 5 rfl rfl)
theorem dX3_like_8 : decode cX3_like 8 = .ok (.aload_n 0, 1) := dk_42 (dk_at dksX3_like_0 8 rfl rfl)
theorem dX3_like_9 : decode cX3_like 9 = .ok (.aload_n 1, 1) := dk_43 (dk_at dksX3_like_0 9 rfl rfl)
theorem dX3_like_10 : decode cX3_like 10 = .ok (.getfield 27, 3) := dk_180 0 27 (dk_at dksX3_like_0 10 rfl rfl)
theorem dX3_like_13 : decode cX3_like 13 = .ok (.putfield 27, 3) := dk_181 0 27 (dk_at dksX3_like_0 13 rfl rfl)
theorem dX3_like_16 : decode cX3_like 16 = .ok (.iconst 0, 1) := dk_3 (dk_at dksX3_like_0 16 rfl rfl)
theorem dX3_like_17 : decode cX3_like 17 = .ok (.istore_n 2, 1) := dk_61 (dk_at dksX3_like_0 17 rfl rfl)
theorem dX3_like_18 : decode cX3_like 18 = .ok (.iload_n 2, 1) := dk_28 (dk_at dksX3_like_0 18 rfl rfl)
theorem dX3_like_19 : decode cX3_like 19 = .ok (.aload_n 0, 1) := dk_42 (dk_at dksX3_like_0 19 rfl rfl)
theorem dX3_like_20 : decode cX3_like 20 = .ok (.getfield 23, 3) := dk_180 0 23 (dk_at dksX3_like_0 20 rfl rfl)
theorem dX3_like_23 : decode cX3_like 23 = .ok (.if_icmp .ge 36, 3) := dk_162 0 36 (dk_at dksX3_like_1 0 rfl rfl)
theorem dX3_like_26 : decode cX3_like 26 = .ok (.aload_n 0, 1) := dk_42 (dk_at dksX3_like_1 3 rfl rfl)
theorem dX3_like_27 : decode cX3_like 27 = .ok (.getfield 11, 3) := dk_180 0 11 (dk_at dksX3_like_1 4 rfl rfl)
theorem dX3_like_30 : decode cX3_like 30 = .ok (.iload_n 2, 1) := dk_28 (dk_at dksX3_like_1 7 rfl rfl)
theorem dX3_like_31 : decode cX3_like 31 = .ok (.aaload, 1) := dk_50 (dk_at dksX3_like_1 8 rfl rfl)
theorem dX3_like_32 : decode cX3_like 32 = .ok (.aload_n 1, 1) := dk_43 (dk_at dksX3_like_1 9 rfl rfl)
theorem dX3_like_33 : decode cX3_like 33 = .ok (.getfield 11, 3) := dk_180 0 11 (dk_at dksX3_like_1 10 rfl rfl)
theorem dX3_like_36 : decode cX3_like 36 = .ok (.iload_n 2, 1) := dk_28 (dk_at dksX3_like_1 13 rfl rfl)
theorem dX3_like_37 : decode cX3_like 37 = .ok (.aaload, 1) := dk_50 (dk_at dksX3_like_1 14 rfl rfl)
theorem dX3_like_38 : decode cX3_like 38 = .ok (.getfield 30, 3) := dk_180 0 30 (dk_at dksX3_like_1 15 rfl rfl)
theorem dX3_like_41 : decode cX3_like 41 = .ok (.aload_n 1, 1) := dk_43 (dk_at dksX3_like_1 18 rfl rfl)
theorem dX3_like_42 : decode cX3_like 42 = .ok (.getfield 11, 3) := dk_180 0 11 (dk_at dksX3_like_1 19 rfl rfl)
theorem dX3_like_45 : decode cX3_like 45 = .ok (.iload_n 2, 1) := dk_28 (dk_at dksX3_like_1 22 rfl rfl)
theorem dX3_like_46 : decode cX3_like 46 = .ok (.aaload, 1) := dk_50 (dk_at dksX3_like_1 23 rfl rfl)
theorem dX3_like_47 : decode cX3_like 47 = .ok (.getfield 33, 3) := dk_180 0 33 (dk_at dksX3_like_2 0 rfl rfl)
theorem dX3_like_50 : decode cX3_like 50 = .ok (.invokevirtual 34, 3) := dk_182 0 34 (dk_at dksX3_like_2 3 rfl rfl)
theorem dX3_like_53 : decode cX3_like 53 = .ok (.iinc 2 1, 3) := dk_132 2 1 (dk_at dksX3_like_2 6 rfl rfl)
theorem dX3_like_56 : decode cX3_like 56 = .ok (.goto (-38), 3) := dk_167 255 218 (dk_at dksX3_like_2 9 rfl rfl)
theorem dX3_like_59 : decode cX3_like 59 = .ok (.return_, 1) := dk_177 (dk_at dksX3_like_2 12 rfl rfl)
def dkwX3_puts_3 : List UInt8 := [89, 180, 0, 27, 28, 96, 181, 0, 27, 177]
abbrev dktX3_puts_3 : List UInt8 := dkwX3_puts_3 ++ []
def dkwX3_puts_2 : List UInt8 := [181, 0, 23, 42, 180, 0, 11, 42, 180, 0, 23, 4, 100, 50, 89, 180, 0, 33, 28, 96, 181, 0, 33, 42]
abbrev dktX3_puts_2 : List UInt8 := dkwX3_puts_2 ++ dktX3_puts_3
def dkwX3_puts_1 : List UInt8 := [159, 0, 27, 42, 180, 0, 11, 42, 180, 0, 23, 50, 27, 3, 182, 0, 34, 42, 89, 180, 0, 23, 4, 96]
abbrev dktX3_puts_1 : List UInt8 := dkwX3_puts_1 ++ dktX3_puts_2
def dkwX3_puts_0 : List UInt8 := [42, 180, 0, 23, 153, 0, 21, 42, 180, 0, 11, 42, 180, 0, 23, 4, 100, 50, 180, 0, 30, 27]
abbrev dktX3_puts_0 : List UInt8 := dkwX3_puts_0 ++ dktX3_puts_1
theorem dksX3_puts_0 : cX3_puts.data.toList.drop 0 = dktX3_puts_0 := by decide +kernel
theorem dksX3_puts_1 : cX3_puts.data.toList.drop 22 = dktX3_puts_1 := dk_seg dksX3_puts_0 22 rfl rfl
theorem dksX3_puts_2 : cX3_puts.data.toList.drop 46 = dktX3_puts_2 := dk_seg dksX3_puts_1 24 rfl rfl
theorem dksX3_puts_3 : cX3_puts.data.toList.drop 70 = dktX3_puts_3 := dk_seg dksX3_puts_2 24 rfl rfl
theorem dX3_puts_0 : decode cX3_puts 0 = .ok (.aload_n 0, 1) := dk_42 (dk_at dksX3_puts_0 0 rfl rfl)
theorem dX3_puts_1 : decode cX3_puts 1 = .ok (.getfield 23, 3) := dk_180 0 23 (dk_at dksX3_puts_0 1 rfl rfl)
theorem dX3_puts_4 : decode cX3_puts 4 = .ok (.ifCond .eq 21, 3) := dk_153 0 21 (dk_at dksX3_puts_0 4 rfl rfl)
theorem dX3_puts_7 : decode cX3_puts 7 = .ok (.aload_n 0, 1) := dk_42 (dk_at dksX3_puts_0 7 rfl rfl)
theorem dX3_puts_8 : decode cX3_puts 8 = .ok (.getfield 11, 3) := dk_180 0 11 (dk_at dksX3_puts_0 8 rfl rfl)
theorem dX3_puts_11 : decode cX3_puts 11 = .ok (.aload_n 0, 1) := dk_42 (dk_at dksX3_puts_0 11 rfl rfl)
theorem dX3_puts_12 : decode cX3_puts 12 = .ok (.getfield 23, 3) := dk_180 0 23 (dk_at dksX3_puts_0 12 rfl rfl)
theorem dX3_puts_15 : decode cX3_puts 15 = .ok (.iconst 1, 1) := dk_4 (dk_at dksX3_puts_0 15 rfl rfl)
theorem dX3_puts_16 : decode cX3_puts 16 = .ok (.isub, 1) := dk_100 (dk_at dksX3_puts_0 16 rfl rfl)
theorem dX3_puts_17 : decode cX3_puts 17 = .ok (.aaload, 1) := dk_50 (dk_at dksX3_puts_0 17 rfl rfl)
theorem dX3_puts_18 : decode cX3_puts 18 = .ok (.getfield 30, 3) := dk_180 0 30 (dk_at dksX3_puts_0 18 rfl rfl)
theorem dX3_puts_21 : decode cX3_puts 21 = .ok (.iload_n 1, 1) := dk_27 (dk_at dksX3_puts_0 21 rfl rfl)
theorem dX3_puts_22 : decode cX3_puts 22 = .ok (.if_icmp .eq 27, 3) := dk_159 0 27 (dk_at dksX3_puts_1 0 rfl rfl)
theorem dX3_puts_25 : decode cX3_puts 25 = .ok (.aload_n 0, 1) := dk_42 (dk_at dksX3_puts_1 3 rfl rfl)
theorem dX3_puts_26 : decode cX3_puts 26 = .ok (.getfield 11, 3) := dk_180 0 11 (dk_at dksX3_puts_1 4 rfl rfl)
theorem dX3_puts_29 : decode cX3_puts 29 = .ok (.aload_n 0, 1) := dk_42 (dk_at dksX3_puts_1 7 rfl rfl)
theorem dX3_puts_30 : decode cX3_puts 30 = .ok (.getfield 23, 3) := dk_180 0 23 (dk_at dksX3_puts_1 8 rfl rfl)
theorem dX3_puts_33 : decode cX3_puts 33 = .ok (.aaload, 1) := dk_50 (dk_at dksX3_puts_1 11 rfl rfl)
theorem dX3_puts_34 : decode cX3_puts 34 = .ok (.iload_n 1, 1) := dk_27 (dk_at dksX3_puts_1 12 rfl rfl)
theorem dX3_puts_35 : decode cX3_puts 35 = .ok (.iconst 0, 1) := dk_3 (dk_at dksX3_puts_1 13 rfl rfl)
theorem dX3_puts_36 : decode cX3_puts 36 = .ok (.invokevirtual 34, 3) := dk_182 0 34 (dk_at dksX3_puts_1 14 rfl rfl)
theorem dX3_puts_39 : decode cX3_puts 39 = .ok (.aload_n 0, 1) := dk_42 (dk_at dksX3_puts_1 17 rfl rfl)
theorem dX3_puts_40 : decode cX3_puts 40 = .ok (.dup, 1) := dk_89 (dk_at dksX3_puts_1 18 rfl rfl)
theorem dX3_puts_41 : decode cX3_puts 41 = .ok (.getfield 23, 3) := dk_180 0 23 (dk_at dksX3_puts_1 19 rfl rfl)
theorem dX3_puts_44 : decode cX3_puts 44 = .ok (.iconst 1, 1) := dk_4 (dk_at dksX3_puts_1 22 rfl rfl)
theorem dX3_puts_45 : decode cX3_puts 45 = .ok (.iadd, 1) := dk_96 (dk_at dksX3_puts_1 23 rfl rfl)
theorem dX3_puts_46 : decode cX3_puts 46 = .ok (.putfield 23, 3) := dk_181 0 23 (dk_at dksX3_puts_2 0 rfl rfl)
theorem dX3_puts_49 : decode cX3_puts 49 = .ok (.aload_n 0, 1) := dk_42 (dk_at dksX3_puts_2 3 rfl rfl)
theorem dX3_puts_50 : decode cX3_puts 50 = .ok (.getfield 11, 3) := dk_180 0 11 (dk_at dksX3_puts_2 4 rfl rfl)
theorem dX3_puts_53 : decode cX3_puts 53 = .ok (.aload_n 0, 1) := dk_42 (dk_at dksX3_puts_2 7 rfl rfl)
theorem dX3_puts_54 : decode cX3_puts 54 = .ok (.getfield 23, 3) := dk_180 0 23 (dk_at dksX3_puts_2 8 rfl rfl)
theorem dX3_puts_57 : decode cX3_puts 57 = .ok (.iconst 1, 1) := dk_4 (dk_at dksX3_puts_2 11 rfl rfl)
theorem dX3_puts_58 : decode cX3_puts 58 = .ok (.isub, 1) := dk_100 (dk_at dksX3_puts_2 12 rfl rfl)
theorem dX3_puts_59 : decode cX3_puts 59 = .ok (.aaload, 1) := dk_50 (dk_at dksX3_puts_2 13 rfl rfl)
theorem dX3_puts_60 : decode cX3_puts 60 = .ok (.dup, 1) := dk_89 (dk_at dksX3_puts_2 14 rfl rfl)
theorem dX3_puts_61 : decode cX3_puts 61 = .ok (.getfield 33, 3) := dk_180 0 33 (dk_at dksX3_puts_2 15 rfl rfl)
theorem dX3_puts_64 : decode cX3_puts 64 = .ok (.iload_n 2, 1) := dk_28 (dk_at dksX3_puts_2 18 rfl rfl)
theorem dX3_puts_65 : decode cX3_puts 65 = .ok (.iadd, 1) := dk_96 (dk_at dksX3_puts_2 19 rfl rfl)
theorem dX3_puts_66 : decode cX3_puts 66 = .ok (.putfield 33, 3) := dk_181 0 33 (dk_at dksX3_puts_2 20 rfl rfl)
theorem dX3_puts_69 : decode cX3_puts 69 = .ok (.aload_n 0, 1) := dk_42 (dk_at dksX3_puts_2 23 rfl rfl)
theorem dX3_puts_70 : decode cX3_puts 70 = .ok (.dup, 1) := dk_89 (dk_at dksX3_puts_3 0 rfl rfl)
theorem dX3_puts_71 : decode cX3_puts 71 = .ok (.getfield 27, 3) := dk_180 0 27 (dk_at dksX3_puts_3 1 rfl rfl)
theorem dX3_puts_74 : decode cX3_puts 74 = .ok (.iload_n 2, 1) := dk_28 (dk_at dksX3_puts_3 4 rfl rfl)
theorem dX3_puts_75 : decode cX3_puts 75 = .ok (.iadd, 1) := dk_96 (dk_at dksX3_puts_3 5 rfl rfl)
theorem dX3_puts_76 : decode cX3_puts 76 = .ok (.putfield 27, 3) := dk_181 0 27 (dk_at dksX3_puts_3 6 rfl rfl)
theorem dX3_puts_79 : decode cX3_puts 79 = .ok (.return_, 1) := dk_177 (dk_at dksX3_puts_3 9 rfl rfl)
def dkwX3_takes_2 : List UInt8 := [181, 0, 23, 43, 180, 0, 30, 172]
abbrev dktX3_takes_2 : List UInt8 := dkwX3_takes_2 ++ []
def dkwX3_takes_1 : List UInt8 := [180, 0, 27, 4, 100, 181, 0, 27, 43, 180, 0, 33, 154, 0, 13, 42, 89, 180, 0, 23, 4, 100]
abbrev dktX3_takes_1 : List UInt8 := dkwX3_takes_1 ++ dktX3_takes_2
def dkwX3_takes_0 : List UInt8 := [42, 180, 0, 11, 42, 180, 0, 23, 4, 100, 50, 76, 43, 89, 180, 0, 33, 4, 100, 181, 0, 33, 42, 89]
abbrev dktX3_takes_0 : List UInt8 := dkwX3_takes_0 ++ dktX3_takes_1
theorem dksX3_takes_0 : cX3_takes.data.toList.drop 0 = dktX3_takes_0 := by decide +kernel
theorem dksX3_takes_1 : cX3_takes.data.toList.drop 24 = dktX3_takes_1 := dk_seg dksX3_takes_0 24 rfl rfl
theorem dksX3_takes_2 : cX3_takes.data.toList.drop 46 = dktX3_takes_2 := dk_seg dksX3_takes_1 22 rfl rfl
theorem dX3_takes_0 : decode cX3_takes 0 = .ok (.aload_n 0, 1) := dk_42 (dk_at dksX3_takes_0 0 rfl rfl)
theorem dX3_takes_1 : decode cX3_takes 1 = .ok (.getfield 11, 3) := dk_180 0 11 (dk_at dksX3_takes_0 1 rfl rfl)
theorem dX3_takes_4 : decode cX3_takes 4 = .ok (.aload_n 0, 1) := dk_42 (dk_at dksX3_takes_0 4 rfl rfl)
theorem dX3_takes_5 : decode cX3_takes 5 = .ok (.getfield 23, 3) := dk_180 0 23 (dk_at dksX3_takes_0 5 rfl rfl)
theorem dX3_takes_8 : decode cX3_takes 8 = .ok (.iconst 1, 1) := dk_4 (dk_at dksX3_takes_0 8 rfl rfl)
theorem dX3_takes_9 : decode cX3_takes 9 = .ok (.isub, 1) := dk_100 (dk_at dksX3_takes_0 9 rfl rfl)
theorem dX3_takes_10 : decode cX3_takes 10 = .ok (.aaload, 1) := dk_50 (dk_at dksX3_takes_0 10 rfl rfl)
theorem dX3_takes_11 : decode cX3_takes 11 = .ok (.astore_n 1, 1) := dk_76 (dk_at dksX3_takes_0 11 rfl rfl)
theorem dX3_takes_12 : decode cX3_takes 12 = .ok (.aload_n 1, 1) := dk_43 (dk_at dksX3_takes_0 12 rfl rfl)
theorem dX3_takes_13 : decode cX3_takes 13 = .ok (.dup, 1) := dk_89 (dk_at dksX3_takes_0 13 rfl rfl)
theorem dX3_takes_14 : decode cX3_takes 14 = .ok (.getfield 33, 3) := dk_180 0 33 (dk_at dksX3_takes_0 14 rfl rfl)
theorem dX3_takes_17 : decode cX3_takes 17 = .ok (.iconst 1, 1) := dk_4 (dk_at dksX3_takes_0 17 rfl rfl)
theorem dX3_takes_18 : decode cX3_takes 18 = .ok (.isub, 1) := dk_100 (dk_at dksX3_takes_0 18 rfl rfl)
theorem dX3_takes_19 : decode cX3_takes 19 = .ok (.putfield 33, 3) := dk_181 0 33 (dk_at dksX3_takes_0 19 rfl rfl)
theorem dX3_takes_22 : decode cX3_takes 22 = .ok (.aload_n 0, 1) := dk_42 (dk_at dksX3_takes_0 22 rfl rfl)
theorem dX3_takes_23 : decode cX3_takes 23 = .ok (.dup, 1) := dk_89 (dk_at dksX3_takes_0 23 rfl rfl)
theorem dX3_takes_24 : decode cX3_takes 24 = .ok (.getfield 27, 3) := dk_180 0 27 (dk_at dksX3_takes_1 0 rfl rfl)
theorem dX3_takes_27 : decode cX3_takes 27 = .ok (.iconst 1, 1) := dk_4 (dk_at dksX3_takes_1 3 rfl rfl)
theorem dX3_takes_28 : decode cX3_takes 28 = .ok (.isub, 1) := dk_100 (dk_at dksX3_takes_1 4 rfl rfl)
theorem dX3_takes_29 : decode cX3_takes 29 = .ok (.putfield 27, 3) := dk_181 0 27 (dk_at dksX3_takes_1 5 rfl rfl)
theorem dX3_takes_32 : decode cX3_takes 32 = .ok (.aload_n 1, 1) := dk_43 (dk_at dksX3_takes_1 8 rfl rfl)
theorem dX3_takes_33 : decode cX3_takes 33 = .ok (.getfield 33, 3) := dk_180 0 33 (dk_at dksX3_takes_1 9 rfl rfl)
theorem dX3_takes_36 : decode cX3_takes 36 = .ok (.ifCond .ne 13, 3) := dk_154 0 13 (dk_at dksX3_takes_1 12 rfl rfl)
theorem dX3_takes_39 : decode cX3_takes 39 = .ok (.aload_n 0, 1) := dk_42 (dk_at dksX3_takes_1 15 rfl rfl)
theorem dX3_takes_40 : decode cX3_takes 40 = .ok (.dup, 1) := dk_89 (dk_at dksX3_takes_1 16 rfl rfl)
theorem dX3_takes_41 : decode cX3_takes 41 = .ok (.getfield 23, 3) := dk_180 0 23 (dk_at dksX3_takes_1 17 rfl rfl)
theorem dX3_takes_44 : decode cX3_takes 44 = .ok (.iconst 1, 1) := dk_4 (dk_at dksX3_takes_1 20 rfl rfl)
theorem dX3_takes_45 : decode cX3_takes 45 = .ok (.isub, 1) := dk_100 (dk_at dksX3_takes_1 21 rfl rfl)
theorem dX3_takes_46 : decode cX3_takes 46 = .ok (.putfield 23, 3) := dk_181 0 23 (dk_at dksX3_takes_2 0 rfl rfl)
theorem dX3_takes_49 : decode cX3_takes 49 = .ok (.aload_n 1, 1) := dk_43 (dk_at dksX3_takes_2 3 rfl rfl)
theorem dX3_takes_50 : decode cX3_takes 50 = .ok (.getfield 30, 3) := dk_180 0 30 (dk_at dksX3_takes_2 4 rfl rfl)
theorem dX3_takes_53 : decode cX3_takes 53 = .ok (.ireturn, 1) := dk_172 (dk_at dksX3_takes_2 7 rfl rfl)
def dkwX3_iterator_0 : List UInt8 := [187, 0, 18, 89, 42, 183, 0, 20, 176]
abbrev dktX3_iterator_0 : List UInt8 := dkwX3_iterator_0 ++ []
theorem dksX3_iterator_0 : cX3_iterator.data.toList.drop 0 = dktX3_iterator_0 := by decide +kernel
theorem dX3_iterator_0 : decode cX3_iterator 0 = .ok (.new 18, 3) := dk_187 0 18 (dk_at dksX3_iterator_0 0 rfl rfl)
theorem dX3_iterator_3 : decode cX3_iterator 3 = .ok (.dup, 1) := dk_89 (dk_at dksX3_iterator_0 3 rfl rfl)
theorem dX3_iterator_4 : decode cX3_iterator 4 = .ok (.aload_n 0, 1) := dk_42 (dk_at dksX3_iterator_0 4 rfl rfl)
theorem dX3_iterator_5 : decode cX3_iterator 5 = .ok (.invokespecial 20, 3) := dk_183 0 20 (dk_at dksX3_iterator_0 5 rfl rfl)
theorem dX3_iterator_8 : decode cX3_iterator 8 = .ok (.areturn, 1) := dk_176 (dk_at dksX3_iterator_0 8 rfl rfl)
def dkwX4_init_0 : List UInt8 := [42, 2, 3, 183, 0, 3, 177]
abbrev dktX4_init_0 : List UInt8 := dkwX4_init_0 ++ []
theorem dksX4_init_0 : cX4_init.data.toList.drop 0 = dktX4_init_0 := by decide +kernel
theorem dX4_init_0 : decode cX4_init 0 = .ok (.aload_n 0, 1) := dk_42 (dk_at dksX4_init_0 0 rfl rfl)
theorem dX4_init_1 : decode cX4_init 1 = .ok (.iconst (-1), 1) := dk_2 (dk_at dksX4_init_0 1 rfl rfl)
theorem dX4_init_2 : decode cX4_init 2 = .ok (.iconst 0, 1) := dk_3 (dk_at dksX4_init_0 2 rfl rfl)
theorem dX4_init_3 : decode cX4_init 3 = .ok (.invokespecial 3, 3) := dk_183 0 3 (dk_at dksX4_init_0 3 rfl rfl)
theorem dX4_init_6 : decode cX4_init 6 = .ok (.return_, 1) := dk_177 (dk_at dksX4_init_0 6 rfl rfl)
def dkwX4_init_2_0 : List UInt8 := [42, 183, 0, 9, 42, 27, 181, 0, 14, 42, 28, 181, 0, 18, 177]
abbrev dktX4_init_2_0 : List UInt8 := dkwX4_init_2_0 ++ []
theorem dksX4_init_2_0 : cX4_init_2.data.toList.drop 0 = dktX4_init_2_0 := by decide +kernel
theorem dX4_init_2_0 : decode cX4_init_2 0 = .ok (.aload_n 0, 1) := dk_42 (dk_at dksX4_init_2_0 0 rfl rfl)
theorem dX4_init_2_1 : decode cX4_init_2 1 = .ok (.invokespecial 9, 3) := dk_183 0 9 (dk_at dksX4_init_2_0 1 rfl rfl)
theorem dX4_init_2_4 : decode cX4_init_2 4 = .ok (.aload_n 0, 1) := dk_42 (dk_at dksX4_init_2_0 4 rfl rfl)
theorem dX4_init_2_5 : decode cX4_init_2 5 = .ok (.iload_n 1, 1) := dk_27 (dk_at dksX4_init_2_0 5 rfl rfl)
theorem dX4_init_2_6 : decode cX4_init_2 6 = .ok (.putfield 14, 3) := dk_181 0 14 (dk_at dksX4_init_2_0 6 rfl rfl)
theorem dX4_init_2_9 : decode cX4_init_2 9 = .ok (.aload_n 0, 1) := dk_42 (dk_at dksX4_init_2_0 9 rfl rfl)
theorem dX4_init_2_10 : decode cX4_init_2 10 = .ok (.iload_n 2, 1) := dk_28 (dk_at dksX4_init_2_0 10 rfl rfl)
theorem dX4_init_2_11 : decode cX4_init_2 11 = .ok (.putfield 18, 3) := dk_181 0 18 (dk_at dksX4_init_2_0 11 rfl rfl)
theorem dX4_init_2_14 : decode cX4_init_2 14 = .ok (.return_, 1) := dk_177 (dk_at dksX4_init_2_0 14 rfl rfl)
def dkwX4_becomes_0 : List UInt8 := [42, 27, 181, 0, 14, 42, 28, 181, 0, 18, 177]
abbrev dktX4_becomes_0 : List UInt8 := dkwX4_becomes_0 ++ []
theorem dksX4_becomes_0 : cX4_becomes.data.toList.drop 0 = dktX4_becomes_0 := by decide +kernel
theorem dX4_becomes_0 : decode cX4_becomes 0 = .ok (.aload_n 0, 1) := dk_42 (dk_at dksX4_becomes_0 0 rfl rfl)
theorem dX4_becomes_1 : decode cX4_becomes 1 = .ok (.iload_n 1, 1) := dk_27 (dk_at dksX4_becomes_0 1 rfl rfl)
theorem dX4_becomes_2 : decode cX4_becomes 2 = .ok (.putfield 14, 3) := dk_181 0 14 (dk_at dksX4_becomes_0 2 rfl rfl)
theorem dX4_becomes_5 : decode cX4_becomes 5 = .ok (.aload_n 0, 1) := dk_42 (dk_at dksX4_becomes_0 5 rfl rfl)
theorem dX4_becomes_6 : decode cX4_becomes 6 = .ok (.iload_n 2, 1) := dk_28 (dk_at dksX4_becomes_0 6 rfl rfl)
theorem dX4_becomes_7 : decode cX4_becomes 7 = .ok (.putfield 18, 3) := dk_181 0 18 (dk_at dksX4_becomes_0 7 rfl rfl)
theorem dX4_becomes_10 : decode cX4_becomes 10 = .ok (.return_, 1) := dk_177 (dk_at dksX4_becomes_0 10 rfl rfl)
def dkwX5_init_0 : List UInt8 := [42, 183, 0, 1, 42, 5, 181, 0, 7, 177]
abbrev dktX5_init_0 : List UInt8 := dkwX5_init_0 ++ []
theorem dksX5_init_0 : cX5_init.data.toList.drop 0 = dktX5_init_0 := by decide +kernel
theorem dX5_init_0 : decode cX5_init 0 = .ok (.aload_n 0, 1) := dk_42 (dk_at dksX5_init_0 0 rfl rfl)
theorem dX5_init_1 : decode cX5_init 1 = .ok (.invokespecial 1, 3) := dk_183 0 1 (dk_at dksX5_init_0 1 rfl rfl)
theorem dX5_init_4 : decode cX5_init 4 = .ok (.aload_n 0, 1) := dk_42 (dk_at dksX5_init_0 4 rfl rfl)
theorem dX5_init_5 : decode cX5_init 5 = .ok (.iconst 2, 1) := dk_5 (dk_at dksX5_init_0 5 rfl rfl)
theorem dX5_init_6 : decode cX5_init 6 = .ok (.putfield 7, 3) := dk_181 0 7 (dk_at dksX5_init_0 6 rfl rfl)
theorem dX5_init_9 : decode cX5_init 9 = .ok (.return_, 1) := dk_177 (dk_at dksX5_init_0 9 rfl rfl)
def dkwX5_clear_0 : List UInt8 := [42, 3, 181, 0, 13, 42, 3, 181, 0, 16, 42, 5, 181, 0, 7, 42, 3, 181, 0, 19, 177]
abbrev dktX5_clear_0 : List UInt8 := dkwX5_clear_0 ++ []
theorem dksX5_clear_0 : cX5_clear.data.toList.drop 0 = dktX5_clear_0 := by decide +kernel
theorem dX5_clear_0 : decode cX5_clear 0 = .ok (.aload_n 0, 1) := dk_42 (dk_at dksX5_clear_0 0 rfl rfl)
theorem dX5_clear_1 : decode cX5_clear 1 = .ok (.iconst 0, 1) := dk_3 (dk_at dksX5_clear_0 1 rfl rfl)
theorem dX5_clear_2 : decode cX5_clear 2 = .ok (.putfield 13, 3) := dk_181 0 13 (dk_at dksX5_clear_0 2 rfl rfl)
theorem dX5_clear_5 : decode cX5_clear 5 = .ok (.aload_n 0, 1) := dk_42 (dk_at dksX5_clear_0 5 rfl rfl)
theorem dX5_clear_6 : decode cX5_clear 6 = .ok (.iconst 0, 1) := dk_3 (dk_at dksX5_clear_0 6 rfl rfl)
theorem dX5_clear_7 : decode cX5_clear 7 = .ok (.putfield 16, 3) := dk_181 0 16 (dk_at dksX5_clear_0 7 rfl rfl)
theorem dX5_clear_10 : decode cX5_clear 10 = .ok (.aload_n 0, 1) := dk_42 (dk_at dksX5_clear_0 10 rfl rfl)
theorem dX5_clear_11 : decode cX5_clear 11 = .ok (.iconst 2, 1) := dk_5 (dk_at dksX5_clear_0 11 rfl rfl)
theorem dX5_clear_12 : decode cX5_clear 12 = .ok (.putfield 7, 3) := dk_181 0 7 (dk_at dksX5_clear_0 12 rfl rfl)
theorem dX5_clear_15 : decode cX5_clear 15 = .ok (.aload_n 0, 1) := dk_42 (dk_at dksX5_clear_0 15 rfl rfl)
theorem dX5_clear_16 : decode cX5_clear 16 = .ok (.iconst 0, 1) := dk_3 (dk_at dksX5_clear_0 16 rfl rfl)
theorem dX5_clear_17 : decode cX5_clear 17 = .ok (.putfield 19, 3) := dk_181 0 19 (dk_at dksX5_clear_0 17 rfl rfl)
theorem dX5_clear_20 : decode cX5_clear 20 = .ok (.return_, 1) := dk_177 (dk_at dksX5_clear_0 20 rfl rfl)
def dkwX5_like_1 : List UInt8 := [42, 43, 180, 0, 19, 181, 0, 19, 177]
abbrev dktX5_like_1 : List UInt8 := dkwX5_like_1 ++ []
def dkwX5_like_0 : List UInt8 := [42, 43, 180, 0, 13, 181, 0, 13, 42, 43, 180, 0, 16, 181, 0, 16, 42, 43, 180, 0, 7, 181, 0, 7]
abbrev dktX5_like_0 : List UInt8 := dkwX5_like_0 ++ dktX5_like_1
theorem dksX5_like_0 : cX5_like.data.toList.drop 0 = dktX5_like_0 := by decide +kernel
theorem dksX5_like_1 : cX5_like.data.toList.drop 24 = dktX5_like_1 := dk_seg dksX5_like_0 24 rfl rfl
theorem dX5_like_0 : decode cX5_like 0 = .ok (.aload_n 0, 1) := dk_42 (dk_at dksX5_like_0 0 rfl rfl)
theorem dX5_like_1 : decode cX5_like 1 = .ok (.aload_n 1, 1) := dk_43 (dk_at dksX5_like_0 1 rfl rfl)
theorem dX5_like_2 : decode cX5_like 2 = .ok (.getfield 13, 3) := dk_180 0 13 (dk_at dksX5_like_0 2 rfl rfl)
theorem dX5_like_5 : decode cX5_like 5 = .ok (.putfield 13, 3) := dk_181 0 13 (dk_at dksX5_like_0 5 rfl rfl)
theorem dX5_like_8 : decode cX5_like 8 = .ok (.aload_n 0, 1) := dk_42 (dk_at dksX5_like_0 8 rfl rfl)
theorem dX5_like_9 : decode cX5_like 9 = .ok (.aload_n 1, 1) := dk_43 (dk_at dksX5_like_0 9 rfl rfl)
theorem dX5_like_10 : decode cX5_like 10 = .ok (.getfield 16, 3) := dk_180 0 16 (dk_at dksX5_like_0 10 rfl rfl)
theorem dX5_like_13 : decode cX5_like 13 = .ok (.putfield 16, 3) := dk_181 0 16 (dk_at dksX5_like_0 13 rfl rfl)
theorem dX5_like_16 : decode cX5_like 16 = .ok (.aload_n 0, 1) := dk_42 (dk_at dksX5_like_0 16 rfl rfl)
theorem dX5_like_17 : decode cX5_like 17 = .ok (.aload_n 1, 1) := dk_43 (dk_at dksX5_like_0 17 rfl rfl)
theorem dX5_like_18 : decode cX5_like 18 = .ok (.getfield 7, 3) := dk_180 0 7 (dk_at dksX5_like_0 18 rfl rfl)
theorem dX5_like_21 : decode cX5_like 21 = .ok (.putfield 7, 3) := dk_181 0 7 (dk_at dksX5_like_0 21 rfl rfl)
theorem dX5_like_24 : decode cX5_like 24 = .ok (.aload_n 0, 1) := dk_42 (dk_at dksX5_like_1 0 rfl rfl)
theorem dX5_like_25 : decode cX5_like 25 = .ok (.aload_n 1, 1) := dk_43 (dk_at dksX5_like_1 1 rfl rfl)
theorem dX5_like_26 : decode cX5_like 26 = .ok (.getfield 19, 3) := dk_180 0 19 (dk_at dksX5_like_1 2 rfl rfl)
theorem dX5_like_29 : decode cX5_like 29 = .ok (.putfield 19, 3) := dk_181 0 19 (dk_at dksX5_like_1 5 rfl rfl)
theorem dX5_like_32 : decode cX5_like 32 = .ok (.return_, 1) := dk_177 (dk_at dksX5_like_1 8 rfl rfl)
def dkwX6_init_0 : List UInt8 := [42, 183, 0, 1, 42, 16, 10, 181, 0, 7, 177]
abbrev dktX6_init_0 : List UInt8 := dkwX6_init_0 ++ []
theorem dksX6_init_0 : cX6_init.data.toList.drop 0 = dktX6_init_0 := by decide +kernel
theorem dX6_init_0 : decode cX6_init 0 = .ok (.aload_n 0, 1) := dk_42 (dk_at dksX6_init_0 0 rfl rfl)
theorem dX6_init_1 : decode cX6_init 1 = .ok (.invokespecial 1, 3) := dk_183 0 1 (dk_at dksX6_init_0 1 rfl rfl)
theorem dX6_init_4 : decode cX6_init 4 = .ok (.aload_n 0, 1) := dk_42 (dk_at dksX6_init_0 4 rfl rfl)
theorem dX6_init_5 : decode cX6_init 5 = .ok (.bipush 10, 2) := dk_16 10 (dk_at dksX6_init_0 5 rfl rfl)
theorem dX6_init_7 : decode cX6_init 7 = .ok (.putfield 7, 3) := dk_181 0 7 (dk_at dksX6_init_0 7 rfl rfl)
theorem dX6_init_10 : decode cX6_init 10 = .ok (.return_, 1) := dk_177 (dk_at dksX6_init_0 10 rfl rfl)
def dkwX6_clear_1 : List UInt8 := [181, 0, 22, 177]
abbrev dktX6_clear_1 : List UInt8 := dkwX6_clear_1 ++ []
def dkwX6_clear_0 : List UInt8 := [42, 3, 181, 0, 13, 42, 16, 10, 181, 0, 7, 42, 3, 181, 0, 16, 42, 3, 181, 0, 19, 42, 3]
abbrev dktX6_clear_0 : List UInt8 := dkwX6_clear_0 ++ dktX6_clear_1
theorem dksX6_clear_0 : cX6_clear.data.toList.drop 0 = dktX6_clear_0 := by decide +kernel
theorem dksX6_clear_1 : cX6_clear.data.toList.drop 23 = dktX6_clear_1 := dk_seg dksX6_clear_0 23 rfl rfl
theorem dX6_clear_0 : decode cX6_clear 0 = .ok (.aload_n 0, 1) := dk_42 (dk_at dksX6_clear_0 0 rfl rfl)
theorem dX6_clear_1 : decode cX6_clear 1 = .ok (.iconst 0, 1) := dk_3 (dk_at dksX6_clear_0 1 rfl rfl)
theorem dX6_clear_2 : decode cX6_clear 2 = .ok (.putfield 13, 3) := dk_181 0 13 (dk_at dksX6_clear_0 2 rfl rfl)
theorem dX6_clear_5 : decode cX6_clear 5 = .ok (.aload_n 0, 1) := dk_42 (dk_at dksX6_clear_0 5 rfl rfl)
theorem dX6_clear_6 : decode cX6_clear 6 = .ok (.bipush 10, 2) := dk_16 10 (dk_at dksX6_clear_0 6 rfl rfl)
theorem dX6_clear_8 : decode cX6_clear 8 = .ok (.putfield 7, 3) := dk_181 0 7 (dk_at dksX6_clear_0 8 rfl rfl)
theorem dX6_clear_11 : decode cX6_clear 11 = .ok (.aload_n 0, 1) := dk_42 (dk_at dksX6_clear_0 11 rfl rfl)
theorem dX6_clear_12 : decode cX6_clear 12 = .ok (.iconst 0, 1) := dk_3 (dk_at dksX6_clear_0 12 rfl rfl)
theorem dX6_clear_13 : decode cX6_clear 13 = .ok (.putfield 16, 3) := dk_181 0 16 (dk_at dksX6_clear_0 13 rfl rfl)
theorem dX6_clear_16 : decode cX6_clear 16 = .ok (.aload_n 0, 1) := dk_42 (dk_at dksX6_clear_0 16 rfl rfl)
theorem dX6_clear_17 : decode cX6_clear 17 = .ok (.iconst 0, 1) := dk_3 (dk_at dksX6_clear_0 17 rfl rfl)
theorem dX6_clear_18 : decode cX6_clear 18 = .ok (.putfield 19, 3) := dk_181 0 19 (dk_at dksX6_clear_0 18 rfl rfl)
theorem dX6_clear_21 : decode cX6_clear 21 = .ok (.aload_n 0, 1) := dk_42 (dk_at dksX6_clear_0 21 rfl rfl)
theorem dX6_clear_22 : decode cX6_clear 22 = .ok (.iconst 0, 1) := dk_3 (dk_at dksX6_clear_0 22 rfl rfl)
theorem dX6_clear_23 : decode cX6_clear 23 = .ok (.putfield 22, 3) := dk_181 0 22 (dk_at dksX6_clear_1 0 rfl rfl)
theorem dX6_clear_26 : decode cX6_clear 26 = .ok (.return_, 1) := dk_177 (dk_at dksX6_clear_1 3 rfl rfl)
def dkwX6_like_1 : List UInt8 := [42, 43, 180, 0, 19, 181, 0, 19, 42, 43, 180, 0, 22, 181, 0, 22, 177]
abbrev dktX6_like_1 : List UInt8 := dkwX6_like_1 ++ []
def dkwX6_like_0 : List UInt8 := [42, 43, 180, 0, 13, 181, 0, 13, 42, 43, 180, 0, 7, 181, 0, 7, 42, 43, 180, 0, 16, 181, 0, 16]
abbrev dktX6_like_0 : List UInt8 := dkwX6_like_0 ++ dktX6_like_1
theorem dksX6_like_0 : cX6_like.data.toList.drop 0 = dktX6_like_0 := by decide +kernel
theorem dksX6_like_1 : cX6_like.data.toList.drop 24 = dktX6_like_1 := dk_seg dksX6_like_0 24 rfl rfl
theorem dX6_like_0 : decode cX6_like 0 = .ok (.aload_n 0, 1) := dk_42 (dk_at dksX6_like_0 0 rfl rfl)
theorem dX6_like_1 : decode cX6_like 1 = .ok (.aload_n 1, 1) := dk_43 (dk_at dksX6_like_0 1 rfl rfl)
theorem dX6_like_2 : decode cX6_like 2 = .ok (.getfield 13, 3) := dk_180 0 13 (dk_at dksX6_like_0 2 rfl rfl)
theorem dX6_like_5 : decode cX6_like 5 = .ok (.putfield 13, 3) := dk_181 0 13 (dk_at dksX6_like_0 5 rfl rfl)
theorem dX6_like_8 : decode cX6_like 8 = .ok (.aload_n 0, 1) := dk_42 (dk_at dksX6_like_0 8 rfl rfl)
theorem dX6_like_9 : decode cX6_like 9 = .ok (.aload_n 1, 1) := dk_43 (dk_at dksX6_like_0 9 rfl rfl)
theorem dX6_like_10 : decode cX6_like 10 = .ok (.getfield 7, 3) := dk_180 0 7 (dk_at dksX6_like_0 10 rfl rfl)
theorem dX6_like_13 : decode cX6_like 13 = .ok (.putfield 7, 3) := dk_181 0 7 (dk_at dksX6_like_0 13 rfl rfl)
theorem dX6_like_16 : decode cX6_like 16 = .ok (.aload_n 0, 1) := dk_42 (dk_at dksX6_like_0 16 rfl rfl)
theorem dX6_like_17 : decode cX6_like 17 = .ok (.aload_n 1, 1) := dk_43 (dk_at dksX6_like_0 17 rfl rfl)
theorem dX6_like_18 : decode cX6_like 18 = .ok (.getfield 16, 3) := dk_180 0 16 (dk_at dksX6_like_0 18 rfl rfl)
theorem dX6_like_21 : decode cX6_like 21 = .ok (.putfield 16, 3) := dk_181 0 16 (dk_at dksX6_like_0 21 rfl rfl)
theorem dX6_like_24 : decode cX6_like 24 = .ok (.aload_n 0, 1) := dk_42 (dk_at dksX6_like_1 0 rfl rfl)
theorem dX6_like_25 : decode cX6_like 25 = .ok (.aload_n 1, 1) := dk_43 (dk_at dksX6_like_1 1 rfl rfl)
theorem dX6_like_26 : decode cX6_like 26 = .ok (.getfield 19, 3) := dk_180 0 19 (dk_at dksX6_like_1 2 rfl rfl)
theorem dX6_like_29 : decode cX6_like 29 = .ok (.putfield 19, 3) := dk_181 0 19 (dk_at dksX6_like_1 5 rfl rfl)
theorem dX6_like_32 : decode cX6_like 32 = .ok (.aload_n 0, 1) := dk_42 (dk_at dksX6_like_1 8 rfl rfl)
theorem dX6_like_33 : decode cX6_like 33 = .ok (.aload_n 1, 1) := dk_43 (dk_at dksX6_like_1 9 rfl rfl)
theorem dX6_like_34 : decode cX6_like 34 = .ok (.getfield 22, 3) := dk_180 0 22 (dk_at dksX6_like_1 10 rfl rfl)
theorem dX6_like_37 : decode cX6_like 37 = .ok (.putfield 22, 3) := dk_181 0 22 (dk_at dksX6_like_1 13 rfl rfl)
theorem dX6_like_40 : decode cX6_like 40 = .ok (.return_, 1) := dk_177 (dk_at dksX6_like_1 16 rfl rfl)
def dkwX7_init_0 : List UInt8 := [42, 183, 0, 3, 42, 5, 181, 0, 9, 177]
abbrev dktX7_init_0 : List UInt8 := dkwX7_init_0 ++ []
theorem dksX7_init_0 : cX7_init.data.toList.drop 0 = dktX7_init_0 := by decide +kernel
theorem dX7_init_0 : decode cX7_init 0 = .ok (.aload_n 0, 1) := dk_42 (dk_at dksX7_init_0 0 rfl rfl)
theorem dX7_init_1 : decode cX7_init 1 = .ok (.invokespecial 3, 3) := dk_183 0 3 (dk_at dksX7_init_0 1 rfl rfl)
theorem dX7_init_4 : decode cX7_init 4 = .ok (.aload_n 0, 1) := dk_42 (dk_at dksX7_init_0 4 rfl rfl)
theorem dX7_init_5 : decode cX7_init 5 = .ok (.iconst 2, 1) := dk_5 (dk_at dksX7_init_0 5 rfl rfl)
theorem dX7_init_6 : decode cX7_init 6 = .ok (.putfield 9, 3) := dk_181 0 9 (dk_at dksX7_init_0 6 rfl rfl)
theorem dX7_init_9 : decode cX7_init 9 = .ok (.return_, 1) := dk_177 (dk_at dksX7_init_0 9 rfl rfl)
def dkwX7_clear_0 : List UInt8 := [42, 5, 181, 0, 9, 42, 3, 181, 0, 15, 42, 3, 181, 0, 18, 177]
abbrev dktX7_clear_0 : List UInt8 := dkwX7_clear_0 ++ []
theorem dksX7_clear_0 : cX7_clear.data.toList.drop 0 = dktX7_clear_0 := by decide +kernel
theorem dX7_clear_0 : decode cX7_clear 0 = .ok (.aload_n 0, 1) := dk_42 (dk_at dksX7_clear_0 0 rfl rfl)
theorem dX7_clear_1 : decode cX7_clear 1 = .ok (.iconst 2, 1) := dk_5 (dk_at dksX7_clear_0 1 rfl rfl)
theorem dX7_clear_2 : decode cX7_clear 2 = .ok (.putfield 9, 3) := dk_181 0 9 (dk_at dksX7_clear_0 2 rfl rfl)
theorem dX7_clear_5 : decode cX7_clear 5 = .ok (.aload_n 0, 1) := dk_42 (dk_at dksX7_clear_0 5 rfl rfl)
theorem dX7_clear_6 : decode cX7_clear 6 = .ok (.iconst 0, 1) := dk_3 (dk_at dksX7_clear_0 6 rfl rfl)
theorem dX7_clear_7 : decode cX7_clear 7 = .ok (.putfield 15, 3) := dk_181 0 15 (dk_at dksX7_clear_0 7 rfl rfl)
theorem dX7_clear_10 : decode cX7_clear 10 = .ok (.aload_n 0, 1) := dk_42 (dk_at dksX7_clear_0 10 rfl rfl)
theorem dX7_clear_11 : decode cX7_clear 11 = .ok (.iconst 0, 1) := dk_3 (dk_at dksX7_clear_0 11 rfl rfl)
theorem dX7_clear_12 : decode cX7_clear 12 = .ok (.putfield 18, 3) := dk_181 0 18 (dk_at dksX7_clear_0 12 rfl rfl)
theorem dX7_clear_15 : decode cX7_clear 15 = .ok (.return_, 1) := dk_177 (dk_at dksX7_clear_0 15 rfl rfl)
def dkwX7_like_1 : List UInt8 := [177]
abbrev dktX7_like_1 : List UInt8 := dkwX7_like_1 ++ []
def dkwX7_like_0 : List UInt8 := [42, 43, 180, 0, 9, 181, 0, 9, 42, 43, 180, 0, 15, 181, 0, 15, 42, 43, 180, 0, 18, 181, 0, 18]
abbrev dktX7_like_0 : List UInt8 := dkwX7_like_0 ++ dktX7_like_1
theorem dksX7_like_0 : cX7_like.data.toList.drop 0 = dktX7_like_0 := by decide +kernel
theorem dksX7_like_1 : cX7_like.data.toList.drop 24 = dktX7_like_1 := dk_seg dksX7_like_0 24 rfl rfl
theorem dX7_like_0 : decode cX7_like 0 = .ok (.aload_n 0, 1) := dk_42 (dk_at dksX7_like_0 0 rfl rfl)
theorem dX7_like_1 : decode cX7_like 1 = .ok (.aload_n 1, 1) := dk_43 (dk_at dksX7_like_0 1 rfl rfl)
theorem dX7_like_2 : decode cX7_like 2 = .ok (.getfield 9, 3) := dk_180 0 9 (dk_at dksX7_like_0 2 rfl rfl)
theorem dX7_like_5 : decode cX7_like 5 = .ok (.putfield 9, 3) := dk_181 0 9 (dk_at dksX7_like_0 5 rfl rfl)
theorem dX7_like_8 : decode cX7_like 8 = .ok (.aload_n 0, 1) := dk_42 (dk_at dksX7_like_0 8 rfl rfl)
theorem dX7_like_9 : decode cX7_like 9 = .ok (.aload_n 1, 1) := dk_43 (dk_at dksX7_like_0 9 rfl rfl)
theorem dX7_like_10 : decode cX7_like 10 = .ok (.getfield 15, 3) := dk_180 0 15 (dk_at dksX7_like_0 10 rfl rfl)
theorem dX7_like_13 : decode cX7_like 13 = .ok (.putfield 15, 3) := dk_181 0 15 (dk_at dksX7_like_0 13 rfl rfl)
theorem dX7_like_16 : decode cX7_like 16 = .ok (.aload_n 0, 1) := dk_42 (dk_at dksX7_like_0 16 rfl rfl)
theorem dX7_like_17 : decode cX7_like 17 = .ok (.aload_n 1, 1) := dk_43 (dk_at dksX7_like_0 17 rfl rfl)
theorem dX7_like_18 : decode cX7_like 18 = .ok (.getfield 18, 3) := dk_180 0 18 (dk_at dksX7_like_0 18 rfl rfl)
theorem dX7_like_21 : decode cX7_like 21 = .ok (.putfield 18, 3) := dk_181 0 18 (dk_at dksX7_like_0 21 rfl rfl)
theorem dX7_like_24 : decode cX7_like 24 = .ok (.return_, 1) := dk_177 (dk_at dksX7_like_1 0 rfl rfl)
def dkwX7_breeds_3 : List UInt8 := [177]
abbrev dktX7_breeds_3 : List UInt8 := dkwX7_breeds_3 ++ []
def dkwX7_breeds_2 : List UInt8 := [184, 0, 21, 167, 0, 4, 3, 100, 181, 0, 15, 42, 16, 50, 42, 180, 0, 15, 184, 0, 25, 181, 0, 15]
abbrev dktX7_breeds_2 : List UInt8 := dkwX7_breeds_2 ++ dktX7_breeds_3
def dkwX7_breeds_1 : List UInt8 := [180, 0, 15, 184, 0, 21, 100, 181, 0, 15, 42, 89, 180, 0, 15, 28, 153, 0, 13, 42, 180, 0, 15]
abbrev dktX7_breeds_1 : List UInt8 := dkwX7_breeds_1 ++ dktX7_breeds_2
def dkwX7_breeds_0 : List UInt8 := [42, 27, 153, 0, 15, 42, 180, 0, 15, 42, 180, 0, 9, 96, 167, 0, 15, 42, 180, 0, 15, 42]
abbrev dktX7_breeds_0 : List UInt8 := dkwX7_breeds_0 ++ dktX7_breeds_1
theorem dksX7_breeds_0 : cX7_breeds.data.toList.drop 0 = dktX7_breeds_0 := by decide +kernel
theorem dksX7_breeds_1 : cX7_breeds.data.toList.drop 22 = dktX7_breeds_1 := dk_seg dksX7_breeds_0 22 rfl rfl
theorem dksX7_breeds_2 : cX7_breeds.data.toList.drop 45 = dktX7_breeds_2 := dk_seg dksX7_breeds_1 23 rfl rfl
theorem dksX7_breeds_3 : cX7_breeds.data.toList.drop 69 = dktX7_breeds_3 := dk_seg dksX7_breeds_2 24 rfl rfl
theorem dX7_breeds_0 : decode cX7_breeds 0 = .ok (.aload_n 0, 1) := dk_42 (dk_at dksX7_breeds_0 0 rfl rfl)
theorem dX7_breeds_1 : decode cX7_breeds 1 = .ok (.iload_n 1, 1) := dk_27 (dk_at dksX7_breeds_0 1 rfl rfl)
theorem dX7_breeds_2 : decode cX7_breeds 2 = .ok (.ifCond .eq 15, 3) := dk_153 0 15 (dk_at dksX7_breeds_0 2 rfl rfl)
theorem dX7_breeds_5 : decode cX7_breeds 5 = .ok (.aload_n 0, 1) := dk_42 (dk_at dksX7_breeds_0 5 rfl rfl)
theorem dX7_breeds_6 : decode cX7_breeds 6 = .ok (.getfield 15, 3) := dk_180 0 15 (dk_at dksX7_breeds_0 6 rfl rfl)
theorem dX7_breeds_9 : decode cX7_breeds 9 = .ok (.aload_n 0, 1) := dk_42 (dk_at dksX7_breeds_0 9 rfl rfl)
theorem dX7_breeds_10 : decode cX7_breeds 10 = .ok (.getfield 9, 3) := dk_180 0 9 (dk_at dksX7_breeds_0 10 rfl rfl)
theorem dX7_breeds_13 : decode cX7_breeds 13 = .ok (.iadd, 1) := dk_96 (dk_at dksX7_breeds_0 13 rfl rfl)
theorem dX7_breeds_14 : decode cX7_breeds 14 = .ok (.goto 15, 3) := dk_167 0 15 (dk_at dksX7_breeds_0 14 rfl rfl)
theorem dX7_breeds_17 : decode cX7_breeds 17 = .ok (.aload_n 0, 1) := dk_42 (dk_at dksX7_breeds_0 17 rfl rfl)
theorem dX7_breeds_18 : decode cX7_breeds 18 = .ok (.getfield 15, 3) := dk_180 0 15 (dk_at dksX7_breeds_0 18 rfl rfl)
theorem dX7_breeds_21 : decode cX7_breeds 21 = .ok (.aload_n 0, 1) := dk_42 (dk_at dksX7_breeds_0 21 rfl rfl)
theorem dX7_breeds_22 : decode cX7_breeds 22 = .ok (.getfield 15, 3) := dk_180 0 15 (dk_at dksX7_breeds_1 0 rfl rfl)
theorem dX7_breeds_25 : decode cX7_breeds 25 = .ok (.invokestatic 21, 3) := dk_184 0 21 (dk_at dksX7_breeds_1 3 rfl rfl)
theorem dX7_breeds_28 : decode cX7_breeds 28 = .ok (.isub, 1) := dk_100 (dk_at dksX7_breeds_1 6 rfl rfl)
theorem dX7_breeds_29 : decode cX7_breeds 29 = .ok (.putfield 15, 3) := dk_181 0 15 (dk_at dksX7_breeds_1 7 rfl rfl)
theorem dX7_breeds_32 : decode cX7_breeds 32 = .ok (.aload_n 0, 1) := dk_42 (dk_at dksX7_breeds_1 10 rfl rfl)
theorem dX7_breeds_33 : decode cX7_breeds 33 = .ok (.dup, 1) := dk_89 (dk_at dksX7_breeds_1 11 rfl rfl)
theorem dX7_breeds_34 : decode cX7_breeds 34 = .ok (.getfield 15, 3) := dk_180 0 15 (dk_at dksX7_breeds_1 12 rfl rfl)
theorem dX7_breeds_37 : decode cX7_breeds 37 = .ok (.iload_n 2, 1) := dk_28 (dk_at dksX7_breeds_1 15 rfl rfl)
theorem dX7_breeds_38 : decode cX7_breeds 38 = .ok (.ifCond .eq 13, 3) := dk_153 0 13 (dk_at dksX7_breeds_1 16 rfl rfl)
theorem dX7_breeds_41 : decode cX7_breeds 41 = .ok (.aload_n 0, 1) := dk_42 (dk_at dksX7_breeds_1 19 rfl rfl)
theorem dX7_breeds_42 : decode cX7_breeds 42 = .ok (.getfield 15, 3) := dk_180 0 15 (dk_at dksX7_breeds_1 20 rfl rfl)
theorem dX7_breeds_45 : decode cX7_breeds 45 = .ok (.invokestatic 21, 3) := dk_184 0 21 (dk_at dksX7_breeds_2 0 rfl rfl)
theorem dX7_breeds_48 : decode cX7_breeds 48 = .ok (.goto 4, 3) := dk_167 0 4 (dk_at dksX7_breeds_2 3 rfl rfl)
theorem dX7_breeds_51 : decode cX7_breeds 51 = .ok (.iconst 0, 1) := dk_3 (dk_at dksX7_breeds_2 6 rfl rfl)
theorem dX7_breeds_52 : decode cX7_breeds 52 = .ok (.isub, 1) := dk_100 (dk_at dksX7_breeds_2 7 rfl rfl)
theorem dX7_breeds_53 : decode cX7_breeds 53 = .ok (.putfield 15, 3) := dk_181 0 15 (dk_at dksX7_breeds_2 8 rfl rfl)
theorem dX7_breeds_56 : decode cX7_breeds 56 = .ok (.aload_n 0, 1) := dk_42 (dk_at dksX7_breeds_2 11 rfl rfl)
theorem dX7_breeds_57 : decode cX7_breeds 57 = .ok (.bipush 50, 2) := dk_16 50 (dk_at dksX7_breeds_2 12 rfl rfl)
theorem dX7_breeds_59 : decode cX7_breeds 59 = .ok (.aload_n 0, 1) := dk_42 (dk_at dksX7_breeds_2 14 rfl rfl)
theorem dX7_breeds_60 : decode cX7_breeds 60 = .ok (.getfield 15, 3) := dk_180 0 15 (dk_at dksX7_breeds_2 15 rfl rfl)
theorem dX7_breeds_63 : decode cX7_breeds 63 = .ok (.invokestatic 25, 3) := dk_184 0 25 (dk_at dksX7_breeds_2 18 rfl rfl)
theorem dX7_breeds_66 : decode cX7_breeds 66 = .ok (.putfield 15, 3) := dk_181 0 15 (dk_at dksX7_breeds_2 21 rfl rfl)
theorem dX7_breeds_69 : decode cX7_breeds 69 = .ok (.return_, 1) := dk_177 (dk_at dksX7_breeds_3 0 rfl rfl)
def dkwX9_init_0 : List UInt8 := [42, 1, 1, 3, 3, 183, 0, 1, 42, 27, 181, 0, 7, 177]
abbrev dktX9_init_0 : List UInt8 := dkwX9_init_0 ++ []
theorem dksX9_init_0 : cX9_init.data.toList.drop 0 = dktX9_init_0 := by decide +kernel
theorem dX9_init_0 : decode cX9_init 0 = .ok (.aload_n 0, 1) := dk_42 (dk_at dksX9_init_0 0 rfl rfl)
theorem dX9_init_1 : decode cX9_init 1 = .ok (.aconst_null, 1) := dk_1 (dk_at dksX9_init_0 1 rfl rfl)
theorem dX9_init_2 : decode cX9_init 2 = .ok (.aconst_null, 1) := dk_1 (dk_at dksX9_init_0 2 rfl rfl)
theorem dX9_init_3 : decode cX9_init 3 = .ok (.iconst 0, 1) := dk_3 (dk_at dksX9_init_0 3 rfl rfl)
theorem dX9_init_4 : decode cX9_init 4 = .ok (.iconst 0, 1) := dk_3 (dk_at dksX9_init_0 4 rfl rfl)
theorem dX9_init_5 : decode cX9_init 5 = .ok (.invokespecial 1, 3) := dk_183 0 1 (dk_at dksX9_init_0 5 rfl rfl)
theorem dX9_init_8 : decode cX9_init 8 = .ok (.aload_n 0, 1) := dk_42 (dk_at dksX9_init_0 8 rfl rfl)
theorem dX9_init_9 : decode cX9_init 9 = .ok (.iload_n 1, 1) := dk_27 (dk_at dksX9_init_0 9 rfl rfl)
theorem dX9_init_10 : decode cX9_init 10 = .ok (.putfield 7, 3) := dk_181 0 7 (dk_at dksX9_init_0 10 rfl rfl)
theorem dX9_init_13 : decode cX9_init 13 = .ok (.return_, 1) := dk_177 (dk_at dksX9_init_0 13 rfl rfl)
