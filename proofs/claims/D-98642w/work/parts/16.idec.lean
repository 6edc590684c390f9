/-! the constructors -/
set_option maxRecDepth 100000
def dkwX2_init_0 : List UInt8 := [42, 43, 181, 0, 3, 42, 183, 0, 9, 177]
abbrev dktX2_init_0 : List UInt8 := dkwX2_init_0 ++ []
theorem dksX2_init_0 : cX2_init.data.toList.drop 0 = dktX2_init_0 := by decide +kernel
theorem dX2_init_0 : decode cX2_init 0 = .ok (.aload_n 0, 1) := dk_42 (dk_at dksX2_init_0 0 rfl rfl)
theorem dX2_init_1 : decode cX2_init 1 = .ok (.aload_n 1, 1) := dk_43 (dk_at dksX2_init_0 1 rfl rfl)
theorem dX2_init_2 : decode cX2_init 2 = .ok (.putfield 3, 3) := dk_181 0 3 (dk_at dksX2_init_0 2 rfl rfl)
theorem dX2_init_5 : decode cX2_init 5 = .ok (.aload_n 0, 1) := dk_42 (dk_at dksX2_init_0 5 rfl rfl)
theorem dX2_init_6 : decode cX2_init 6 = .ok (.invokespecial 9, 3) := dk_183 0 9 (dk_at dksX2_init_0 6 rfl rfl)
theorem dX2_init_9 : decode cX2_init 9 = .ok (.return_, 1) := dk_177 (dk_at dksX2_init_0 9 rfl rfl)
def dkwX1_init_10 : List UInt8 := [180, 0, 95, 182, 0, 138, 177]
abbrev dktX1_init_10 : List UInt8 := dkwX1_init_10 ++ []
def dkwX1_init_9 : List UInt8 := [162, 0, 23, 42, 180, 0, 109, 27, 187, 0, 92, 89, 42, 183, 0, 94, 83, 132, 1, 1, 167, 255, 234, 42]
abbrev dktX1_init_9 : List UInt8 := dkwX1_init_9 ++ dktX1_init_10
def dkwX1_init_8 : List UInt8 := [183, 0, 125, 181, 0, 128, 42, 16, 24, 188, 4, 181, 0, 131, 42, 2, 181, 0, 135, 3, 60, 27, 5]
abbrev dktX1_init_8 : List UInt8 := dkwX1_init_8 ++ dktX1_init_9
def dkwX1_init_7 : List UInt8 := [16, 81, 188, 10, 181, 0, 119, 42, 16, 81, 188, 10, 181, 0, 122, 42, 187, 0, 24, 89, 16, 24]
abbrev dktX1_init_7 : List UInt8 := dkwX1_init_7 ++ dktX1_init_8
def dkwX1_init_6 : List UInt8 := [42, 5, 189, 0, 92, 181, 0, 109, 42, 5, 188, 10, 181, 0, 112, 42, 5, 188, 10, 181, 0, 116, 42]
abbrev dktX1_init_6 : List UInt8 := dkwX1_init_6 ++ dktX1_init_7
def dkwX1_init_5 : List UInt8 := [181, 0, 99, 42, 187, 0, 92, 89, 42, 183, 0, 94, 181, 0, 102, 42, 16, 20, 189, 0, 92, 181, 0, 105]
abbrev dktX1_init_5 : List UInt8 := dkwX1_init_5 ++ dktX1_init_6
def dkwX1_init_4 : List UInt8 := [181, 0, 88, 42, 187, 0, 92, 89, 42, 183, 0, 94, 181, 0, 95, 42, 187, 0, 92, 89, 42, 183, 0, 94]
abbrev dktX1_init_4 : List UInt8 := dkwX1_init_4 ++ dktX1_init_5
def dkwX1_init_3 : List UInt8 := [183, 0, 81, 83, 89, 5, 187, 0, 82, 89, 183, 0, 84, 83, 89, 6, 187, 0, 85, 89, 183, 0, 87, 83]
abbrev dktX1_init_3 : List UInt8 := dkwX1_init_3 ++ dktX1_init_4
def dkwX1_init_2 : List UInt8 := [181, 0, 38, 42, 7, 189, 0, 74, 89, 3, 187, 0, 76, 89, 183, 0, 78, 83, 89, 4, 187, 0, 79, 89]
abbrev dktX1_init_2 : List UInt8 := dkwX1_init_2 ++ dktX1_init_3
def dkwX1_init_1 : List UInt8 := [183, 0, 66, 181, 0, 69, 42, 187, 0, 18, 89, 183, 0, 73, 181, 0, 13, 42, 16, 7, 188, 11]
abbrev dktX1_init_1 : List UInt8 := dkwX1_init_1 ++ dktX1_init_2
def dkwX1_init_0 : List UInt8 := [42, 183, 0, 50, 42, 17, 2, 188, 188, 8, 181, 0, 56, 42, 2, 181, 0, 60, 42, 187, 0, 64, 89, 42]
abbrev dktX1_init_0 : List UInt8 := dkwX1_init_0 ++ dktX1_init_1
theorem dksX1_init_0 : cX1_init.data.toList.drop 0 = dktX1_init_0 := by decide +kernel
theorem dksX1_init_1 : cX1_init.data.toList.drop 24 = dktX1_init_1 := dk_seg dksX1_init_0 24 rfl rfl
theorem dksX1_init_2 : cX1_init.data.toList.drop 46 = dktX1_init_2 := dk_seg dksX1_init_1 22 rfl rfl
theorem dksX1_init_3 : cX1_init.data.toList.drop 70 = dktX1_init_3 := dk_seg dksX1_init_2 24 rfl rfl
theorem dksX1_init_4 : cX1_init.data.toList.drop 94 = dktX1_init_4 := dk_seg dksX1_init_3 24 rfl rfl
theorem dksX1_init_5 : cX1_init.data.toList.drop 118 = dktX1_init_5 := dk_seg dksX1_init_4 24 rfl rfl
theorem dksX1_init_6 : cX1_init.data.toList.drop 142 = dktX1_init_6 := dk_seg dksX1_init_5 24 rfl rfl
theorem dksX1_init_7 : cX1_init.data.toList.drop 165 = dktX1_init_7 := dk_seg dksX1_init_6 23 rfl rfl
theorem dksX1_init_8 : cX1_init.data.toList.drop 187 = dktX1_init_8 := dk_seg dksX1_init_7 22 rfl rfl
theorem dksX1_init_9 : cX1_init.data.toList.drop 210 = dktX1_init_9 := dk_seg dksX1_init_8 23 rfl rfl
theorem dksX1_init_10 : cX1_init.data.toList.drop 234 = dktX1_init_10 := dk_seg dksX1_init_9 24 rfl rfl
theorem dX1_init_0 : decode cX1_init 0 = .ok (.aload_n 0, 1) := dk_42 (dk_at dksX1_init_0 0 rfl rfl)
theorem dX1_init_1 : decode cX1_init 1 = .ok (.invokespecial 50, 3) := dk_183 0 50 (dk_at dksX1_init_0 1 rfl rfl)
theorem dX1_init_4 : decode cX1_init 4 = .ok (.aload_n 0, 1) := dk_42 (dk_at dksX1_init_0 4 rfl rfl)
theorem dX1_init_5 : decode cX1_init 5 = .ok (.sipush 700, 3) := dk_17 2 188 (dk_at dksX1_init_0 5 rfl rfl)
theorem dX1_init_8 : decode cX1_init 8 = .ok (.newarray .byte, 2) := dk_188_8 (dk_at dksX1_init_0 8 rfl rfl)
theorem dX1_init_10 : decode cX1_init 10 = .ok (.putfield 56, 3) := dk_181 0 56 (dk_at dksX1_init_0 10 rfl rfl)
theorem dX1_init_13 : decode cX1_init 13 = .ok (.aload_n 0, 1) := dk_42 (dk_at dksX1_init_0 13 rfl rfl)
theorem dX1_init_14 : decode cX1_init 14 = .ok (.iconst (-1), 1) := dk_2 (dk_at dksX1_init_0 14 rfl rfl)
theorem dX1_init_15 : decode cX1_init 15 = .ok (.putfield 60, 3) := dk_181 0 60 (dk_at dksX1_init_0 15 rfl rfl)
theorem dX1_init_18 : decode cX1_init 18 = .ok (.aload_n 0, 1) := dk_42 (dk_at dksX1_init_0 18 rfl rfl)
theorem dX1_init_19 : decode cX1_init 19 = .ok (.new 64, 3) := dk_187 0 64 (dk_at dksX1_init_0 19 rfl rfl)
theorem dX1_init_22 : decode cX1_init 22 = .ok (.dup, 1) := dk_89 (dk_at dksX1_init_0 22 rfl rfl)
theorem dX1_init_23 : decode cX1_init 23 = .ok (.aload_n 0, 1) := dk_42 (dk_at dksX1_init_0 23 rfl rfl)
theorem dX1_init_24 : decode cX1_init 24 = .ok (.invokespecial 66, 3) := dk_183 0 66 (dk_at dksX1_init_1 0 rfl rfl)
theorem dX1_init_27 : decode cX1_init 27 = .ok (.putfield 69, 3) := dk_181 0 69 (dk_at dksX1_init_1 3 rfl rfl)
theorem dX1_init_30 : decode cX1_init 30 = .ok (.aload_n 0, 1) := dk_42 (dk_at dksX1_init_1 6 rfl rfl)
theorem dX1_init_31 : decode cX1_init 31 = .ok (.new 18, 3) := dk_187 0 18 (dk_at dksX1_init_1 7 rfl rfl)
theorem dX1_init_34 : decode cX1_init 34 = .ok (.dup, 1) := dk_89 (dk_at dksX1_init_1 10 rfl rfl)
theorem dX1_init_35 : decode cX1_init 35 = .ok (.invokespecial 73, 3) := dk_183 0 73 (dk_at dksX1_init_1 11 rfl rfl)
theorem dX1_init_38 : decode cX1_init 38 = .ok (.putfield 13, 3) := dk_181 0 13 (dk_at dksX1_init_1 14 rfl rfl)
theorem dX1_init_41 : decode cX1_init 41 = .ok (.aload_n 0, 1) := dk_42 (dk_at dksX1_init_1 17 rfl rfl)
theorem dX1_init_42 : decode cX1_init 42 = .ok (.bipush 7, 2) := dk_16 7 (dk_at dksX1_init_1 18 rfl rfl)
theorem dX1_init_44 : decode cX1_init 44 = .ok (.newarray .long, 2) := dk_188_11 (dk_at dksX1_init_1 20 rfl rfl)
theorem dX1_init_46 : decode cX1_init 46 = .ok (.putfield 38, 3) := dk_181 0 38 (dk_at dksX1_init_2 0 rfl rfl)
theorem dX1_init_49 : decode cX1_init 49 = .ok (.aload_n 0, 1) := dk_42 (dk_at dksX1_init_2 3 rfl rfl)
theorem dX1_init_50 : decode cX1_init 50 = .ok (.iconst 4, 1) := dk_7 (dk_at dksX1_init_2 4 rfl rfl)
theorem dX1_init_51 : decode cX1_init 51 = .ok (.anewarray 74, 3) := dk_189 0 74 (dk_at dksX1_init_2 5 rfl rfl)
theorem dX1_init_54 : decode cX1_init 54 = .ok (.dup, 1) := dk_89 (dk_at dksX1_init_2 8 rfl rfl)
theorem dX1_init_55 : decode cX1_init 55 = .ok (.iconst 0, 1) := dk_3 (dk_at dksX1_init_2 9 rfl rfl)
theorem dX1_init_56 : decode cX1_init 56 = .ok (.new 76, 3) := dk_187 0 76 (dk_at dksX1_init_2 10 rfl rfl)
theorem dX1_init_59 : decode cX1_init 59 = .ok (.dup, 1) := dk_89 (dk_at dksX1_init_2 13 rfl rfl)
theorem dX1_init_60 : decode cX1_init 60 = .ok (.invokespecial 78, 3) := dk_183 0 78 (dk_at dksX1_init_2 14 rfl rfl)
theorem dX1_init_63 : decode cX1_init 63 = .ok (.aastore, 1) := dk_83 (dk_at dksX1_init_2 17 rfl rfl)
theorem dX1_init_64 : decode cX1_init 64 = .ok (.dup, 1) := dk_89 (dk_at dksX1_init_2 18 rfl rfl)
theorem dX1_init_65 : decode cX1_init 65 = .ok (.iconst 1, 1) := dk_4 (dk_at dksX1_init_2 19 rfl rfl)
theorem dX1_init_66 : decode cX1_init 66 = .ok (.new 79, 3) := dk_187 0 79 (dk_at dksX1_init_2 20 rfl rfl)
theorem dX1_init_69 : decode cX1_init 69 = .ok (.dup, 1) := dk_89 (dk_at dksX1_init_2 23 rfl rfl)
theorem dX1_init_70 : decode cX1_init 70 = .ok (.invokespecial 81, 3) := dk_183 0 81 (dk_at dksX1_init_3 0 rfl rfl)
theorem dX1_init_73 : decode cX1_init 73 = .ok (.aastore, 1) := dk_83 (dk_at dksX1_init_3 3 rfl rfl)
theorem dX1_init_74 : decode cX1_init 74 = .ok (.dup, 1) := dk_89 (dk_at dksX1_init_3 4 rfl rfl)
theorem dX1_init_75 : decode cX1_init 75 = .ok (.iconst 2, 1) := dk_5 (dk_at dksX1_init_3 5 rfl rfl)
theorem dX1_init_76 : decode cX1_init 76 = .ok (.new 82, 3) := dk_187 0 82 (dk_at dksX1_init_3 6 rfl rfl)
theorem dX1_init_79 : decode cX1_init 79 = .ok (.dup, 1) := dk_89 (dk_at dksX1_init_3 9 rfl rfl)
theorem dX1_init_80 : decode cX1_init 80 = .ok (.invokespecial 84, 3) := dk_183 0 84 (dk_at dksX1_init_3 10 rfl rfl)
theorem dX1_init_83 : decode cX1_init 83 = .ok (.aastore, 1) := dk_83 (dk_at dksX1_init_3 13 rfl rfl)
theorem dX1_init_84 : decode cX1_init 84 = .ok (.dup, 1) := dk_89 (dk_at dksX1_init_3 14 rfl rfl)
theorem dX1_init_85 : decode cX1_init 85 = .ok (.iconst 3, 1) := dk_6 (dk_at dksX1_init_3 15 rfl rfl)
theorem dX1_init_86 : decode cX1_init 86 = .ok (.new 85, 3) := dk_187 0 85 (dk_at dksX1_init_3 16 rfl rfl)
theorem dX1_init_89 : decode cX1_init 89 = .ok (.dup, 1) := dk_89 (dk_at dksX1_init_3 19 rfl rfl)
theorem dX1_init_90 : decode cX1_init 90 = .ok (.invokespecial 87, 3) := dk_183 0 87 (dk_at dksX1_init_3 20 rfl rfl)
theorem dX1_init_93 : decode cX1_init 93 = .ok (.aastore, 1) := dk_83 (dk_at dksX1_init_3 23 rfl rfl)
theorem dX1_init_94 : decode cX1_init 94 = .ok (.putfield 88, 3) := dk_181 0 88 (dk_at dksX1_init_4 0 rfl rfl)
theorem dX1_init_97 : decode cX1_init 97 = .ok (.aload_n 0, 1) := dk_42 (dk_at dksX1_init_4 3 rfl rfl)
theorem dX1_init_98 : decode cX1_init 98 = .ok (.new 92, 3) := dk_187 0 92 (dk_at dksX1_init_4 4 rfl rfl)
theorem dX1_init_101 : decode cX1_init 101 = .ok (.dup, 1) := dk_89 (dk_at dksX1_init_4 7 rfl rfl)
theorem dX1_init_102 : decode cX1_init 102 = .ok (.aload_n 0, 1) := dk_42 (dk_at dksX1_init_4 8 rfl rfl)
theorem dX1_init_103 : decode cX1_init 103 = .ok (.invokespecial 94, 3) := dk_183 0 94 (dk_at dksX1_init_4 9 rfl rfl)
theorem dX1_init_106 : decode cX1_init 106 = .ok (.putfield 95, 3) := dk_181 0 95 (dk_at dksX1_init_4 12 rfl rfl)
theorem dX1_init_109 : decode cX1_init 109 = .ok (.aload_n 0, 1) := dk_42 (dk_at dksX1_init_4 15 rfl rfl)
theorem dX1_init_110 : decode cX1_init 110 = .ok (.new 92, 3) := dk_187 0 92 (dk_at dksX1_init_4 16 rfl rfl)
theorem dX1_init_113 : decode cX1_init 113 = .ok (.dup, 1) := dk_89 (dk_at dksX1_init_4 19 rfl rfl)
theorem dX1_init_114 : decode cX1_init 114 = .ok (.aload_n 0, 1) := dk_42 (dk_at dksX1_init_4 20 rfl rfl)
theorem dX1_init_115 : decode cX1_init 115 = .ok (.invokespecial 94, 3) := dk_183 0 94 (dk_at dksX1_init_4 21 rfl rfl)
theorem dX1_init_118 : decode cX1_init 118 = .ok (.putfield 99, 3) := dk_181 0 99 (dk_at dksX1_init_5 0 rfl rfl)
theorem dX1_init_121 : decode cX1_init 121 = .ok (.aload_n 0, 1) := dk_42 (dk_at dksX1_init_5 3 rfl rfl)
theorem dX1_init_122 : decode cX1_init 122 = .ok (.new 92, 3) := dk_187 0 92 (dk_at dksX1_init_5 4 rfl rfl)
theorem dX1_init_125 : decode cX1_init 125 = .ok (.dup, 1) := dk_89 (dk_at dksX1_init_5 7 rfl rfl)
theorem dX1_init_126 : decode cX1_init 126 = .ok (.aload_n 0, 1) := dk_42 (dk_at dksX1_init_5 8 rfl rfl)
theorem dX1_init_127 : decode cX1_init 127 = .ok (.invokespecial 94, 3) := dk_183 0 94 (dk_at dksX1_init_5 9 rfl rfl)
theorem dX1_init_130 : decode cX1_init 130 = .ok (.putfield 102, 3) := dk_181 0 102 (dk_at dksX1_init_5 12 rfl rfl)
theorem dX1_init_133 : decode cX1_init 133 = .ok (.aload_n 0, 1) := dk_42 (dk_at dksX1_init_5 15 rfl rfl)
theorem dX1_init_134 : decode cX1_init 134 = .ok (.bipush 20, 2) := dk_16 20 (dk_at dksX1_init_5 16 rfl rfl)
theorem dX1_init_136 : decode cX1_init 136 = .ok (.anewarray 92, 3) := dk_189 0 92 (dk_at dksX1_init_5 18 rfl rfl)
theorem dX1_init_139 : decode cX1_init 139 = .ok (.putfield 105, 3) := dk_181 0 105 (dk_at dksX1_init_5 21 rfl rfl)
theorem dX1_init_142 : decode cX1_init 142 = .ok (.aload_n 0, 1) := dk_42 (dk_at dksX1_init_6 0 rfl rfl)
theorem dX1_init_143 : decode cX1_init 143 = .ok (.iconst 2, 1) := dk_5 (dk_at dksX1_init_6 1 rfl rfl)
theorem dX1_init_144 : decode cX1_init 144 = .ok (.anewarray 92, 3) := dk_189 0 92 (dk_at dksX1_init_6 2 rfl rfl)
theorem dX1_init_147 : decode cX1_init 147 = .ok (.putfield 109, 3) := dk_181 0 109 (dk_at dksX1_init_6 5 rfl rfl)
theorem dX1_init_150 : decode cX1_init 150 = .ok (.aload_n 0, 1) := dk_42 (dk_at dksX1_init_6 8 rfl rfl)
theorem dX1_init_151 : decode cX1_init 151 = .ok (.iconst 2, 1) := dk_5 (dk_at dksX1_init_6 9 rfl rfl)
theorem dX1_init_152 : decode cX1_init 152 = .ok (.newarray .int, 2) := dk_188_10 (dk_at dksX1_init_6 10 rfl rfl)
theorem dX1_init_154 : decode cX1_init 154 = .ok (.putfield 112, 3) := dk_181 0 112 (dk_at dksX1_init_6 12 rfl rfl)
theorem dX1_init_157 : decode cX1_init 157 = .ok (.aload_n 0, 1) := dk_42 (dk_at dksX1_init_6 15 rfl rfl)
theorem dX1_init_158 : decode cX1_init 158 = .ok (.iconst 2, 1) := dk_5 (dk_at dksX1_init_6 16 rfl rfl)
theorem dX1_init_159 : decode cX1_init 159 = .ok (.newarray .int, 2) := dk_188_10 (dk_at dksX1_init_6 17 rfl rfl)
theorem dX1_init_161 : decode cX1_init 161 = .ok (.putfield 116, 3) := dk_181 0 116 (dk_at dksX1_init_6 19 rfl rfl)
theorem dX1_init_164 : decode cX1_init 164 = .ok (.aload_n 0, 1) := dk_42 (dk_at dksX1_init_6 22 rfl rfl)
theorem dX1_init_165 : decode cX1_init 165 = .ok (.bipush 81, 2) := dk_16 81 (dk_at dksX1_init_7 0 rfl rfl)
theorem dX1_init_167 : decode cX1_init 167 = .ok (.newarray .int, 2) := dk_188_10 (dk_at dksX1_init_7 2 rfl rfl)
theorem dX1_init_169 : decode cX1_init 169 = .ok (.putfield 119, 3) := dk_181 0 119 (dk_at dksX1_init_7 4 rfl rfl)
theorem dX1_init_172 : decode cX1_init 172 = .ok (.aload_n 0, 1) := dk_42 (dk_at dksX1_init_7 7 rfl rfl)
theorem dX1_init_173 : decode cX1_init 173 = .ok (.bipush 81, 2) := dk_16 81 (dk_at dksX1_init_7 8 rfl rfl)
theorem dX1_init_175 : decode cX1_init 175 = .ok (.newarray .int, 2) := dk_188_10 (dk_at dksX1_init_7 10 rfl rfl)
theorem dX1_init_177 : decode cX1_init 177 = .ok (.putfield 122, 3) := dk_181 0 122 (dk_at dksX1_init_7 12 rfl rfl)
theorem dX1_init_180 : decode cX1_init 180 = .ok (.aload_n 0, 1) := dk_42 (dk_at dksX1_init_7 15 rfl rfl)
theorem dX1_init_181 : decode cX1_init 181 = .ok (.new 24, 3) := dk_187 0 24 (dk_at dksX1_init_7 16 rfl rfl)
theorem dX1_init_184 : decode cX1_init 184 = .ok (.dup, 1) := dk_89 (dk_at dksX1_init_7 19 rfl rfl)
theorem dX1_init_185 : decode cX1_init 185 = .ok (.bipush 24, 2) := dk_16 24 (dk_at dksX1_init_7 20 rfl rfl)
theorem dX1_init_187 : decode cX1_init 187 = .ok (.invokespecial 125, 3) := dk_183 0 125 (dk_at dksX1_init_8 0 rfl rfl)
theorem dX1_init_190 : decode cX1_init 190 = .ok (.putfield 128, 3) := dk_181 0 128 (dk_at dksX1_init_8 3 rfl rfl)
theorem dX1_init_193 : decode cX1_init 193 = .ok (.aload_n 0, 1) := dk_42 (dk_at dksX1_init_8 6 rfl rfl)
theorem dX1_init_194 : decode cX1_init 194 = .ok (.bipush 24, 2) := dk_16 24 (dk_at dksX1_init_8 7 rfl rfl)
theorem dX1_init_196 : decode cX1_init 196 = .ok (.newarray .boolean, 2) := dk_188_4 (dk_at dksX1_init_8 9 rfl rfl)
theorem dX1_init_198 : decode cX1_init 198 = .ok (.putfield 131, 3) := dk_181 0 131 (dk_at dksX1_init_8 11 rfl rfl)
theorem dX1_init_201 : decode cX1_init 201 = .ok (.aload_n 0, 1) := dk_42 (dk_at dksX1_init_8 14 rfl rfl)
theorem dX1_init_202 : decode cX1_init 202 = .ok (.iconst (-1), 1) := dk_2 (dk_at dksX1_init_8 15 rfl rfl)
theorem dX1_init_203 : decode cX1_init 203 = .ok (.putfield 135, 3) := dk_181 0 135 (dk_at dksX1_init_8 16 rfl rfl)
theorem dX1_init_206 : decode cX1_init 206 = .ok (.iconst 0, 1) := dk_3 (dk_at dksX1_init_8 19 rfl rfl)
theorem dX1_init_207 : decode cX1_init 207 = .ok (.istore_n 1, 1) := dk_60 (dk_at dksX1_init_8 20 rfl rfl)
theorem dX1_init_208 : decode cX1_init 208 = .ok (.iload_n 1, 1) := dk_27 (dk_at dksX1_init_8 21 rfl rfl)
theorem dX1_init_209 : decode cX1_init 209 = .ok (.iconst 2, 1) := dk_5 (dk_at dksX1_init_8 22 rfl rfl)
theorem dX1_init_210 : decode cX1_init 210 = .ok (.if_icmp .ge 23, 3) := dk_162 0 23 (dk_at dksX1_init_9 0 rfl rfl)
theorem dX1_init_213 : decode cX1_init 213 = .ok (.aload_n 0, 1) := dk_42 (dk_at dksX1_init_9 3 rfl rfl)
theorem dX1_init_214 : decode cX1_init 214 = .ok (.getfield 109, 3) := dk_180 0 109 (dk_at dksX1_init_9 4 rfl rfl)
theorem dX1_init_217 : decode cX1_init 217 = .ok (.iload_n 1, 1) := dk_27 (dk_at dksX1_init_9 7 rfl rfl)
theorem dX1_init_218 : decode cX1_init 218 = .ok (.new 92, 3) := dk_187 0 92 (dk_at dksX1_init_9 8 rfl rfl)
theorem dX1_init_221 : decode cX1_init 221 = .ok (.dup, 1) := dk_89 (dk_at dksX1_init_9 11 rfl rfl)
theorem dX1_init_222 : decode cX1_init 222 = .ok (.aload_n 0, 1) := dk_42 (dk_at dksX1_init_9 12 rfl rfl)
theorem dX1_init_223 : decode cX1_init 223 = .ok (.invokespecial 94, 3) := dk_183 0 94 (dk_at dksX1_init_9 13 rfl rfl)
theorem dX1_init_226 : decode cX1_init 226 = .ok (.aastore, 1) := dk_83 (dk_at dksX1_init_9 16 rfl rfl)
theorem dX1_init_227 : decode cX1_init 227 = .ok (.iinc 1 1, 3) := dk_132 1 1 (dk_at dksX1_init_9 17 rfl rfl)
theorem dX1_init_230 : decode cX1_init 230 = .ok (.goto (-22), 3) := dk_167 255 234 (dk_at dksX1_init_9 20 rfl rfl)
theorem dX1_init_233 : decode cX1_init 233 = .ok (.aload_n 0, 1) := dk_42 (dk_at dksX1_init_9 23 rfl rfl)
theorem dX1_init_234 : decode cX1_init 234 = .ok (.getfield 95, 3) := dk_180 0 95 (dk_at dksX1_init_10 0 rfl rfl)
theorem dX1_init_237 : decode cX1_init 237 = .ok (.invokevirtual 138, 3) := dk_182 0 138 (dk_at dksX1_init_10 3 rfl rfl)
theorem dX1_init_240 : decode cX1_init 240 = .ok (.return_, 1) := dk_177 (dk_at dksX1_init_10 6 rfl rfl)
theorem bp_23 : (Int8.ofInt (23)).toInt32 = (23 : Int32) := by decide
theorem bp_25 : (Int8.ofInt (25)).toInt32 = (25 : Int32) := by decide
theorem bp_26 : (Int8.ofInt (26)).toInt32 = (26 : Int32) := by decide
theorem bp_27 : (Int8.ofInt (27)).toInt32 = (27 : Int32) := by decide
theorem bp_28 : (Int8.ofInt (28)).toInt32 = (28 : Int32) := by decide
theorem bp_29 : (Int8.ofInt (29)).toInt32 = (29 : Int32) := by decide
theorem bp_30 : (Int8.ofInt (30)).toInt32 = (30 : Int32) := by decide
theorem bp_31 : (Int8.ofInt (31)).toInt32 = (31 : Int32) := by decide
theorem bp_33 : (Int8.ofInt (33)).toInt32 = (33 : Int32) := by decide
theorem bp_34 : (Int8.ofInt (34)).toInt32 = (34 : Int32) := by decide
theorem bp_35 : (Int8.ofInt (35)).toInt32 = (35 : Int32) := by decide
theorem bp_36 : (Int8.ofInt (36)).toInt32 = (36 : Int32) := by decide
theorem bp_38 : (Int8.ofInt (38)).toInt32 = (38 : Int32) := by decide
theorem bp_39 : (Int8.ofInt (39)).toInt32 = (39 : Int32) := by decide
theorem bp_44 : (Int8.ofInt (44)).toInt32 = (44 : Int32) := by decide
theorem bp_46 : (Int8.ofInt (46)).toInt32 = (46 : Int32) := by decide
theorem bp_49 : (Int8.ofInt (49)).toInt32 = (49 : Int32) := by decide
theorem bp_51 : (Int8.ofInt (51)).toInt32 = (51 : Int32) := by decide
theorem bp_52 : (Int8.ofInt (52)).toInt32 = (52 : Int32) := by decide
theorem bp_53 : (Int8.ofInt (53)).toInt32 = (53 : Int32) := by decide
theorem bp_54 : (Int8.ofInt (54)).toInt32 = (54 : Int32) := by decide
theorem bp_55 : (Int8.ofInt (55)).toInt32 = (55 : Int32) := by decide
theorem bp_56 : (Int8.ofInt (56)).toInt32 = (56 : Int32) := by decide
theorem bp_58 : (Int8.ofInt (58)).toInt32 = (58 : Int32) := by decide
theorem bp_65 : (Int8.ofInt (65)).toInt32 = (65 : Int32) := by decide
theorem bp_66 : (Int8.ofInt (66)).toInt32 = (66 : Int32) := by decide
theorem bp_67 : (Int8.ofInt (67)).toInt32 = (67 : Int32) := by decide
theorem bp_68 : (Int8.ofInt (68)).toInt32 = (68 : Int32) := by decide
theorem bp_69 : (Int8.ofInt (69)).toInt32 = (69 : Int32) := by decide
theorem bp_70 : (Int8.ofInt (70)).toInt32 = (70 : Int32) := by decide
theorem bp_71 : (Int8.ofInt (71)).toInt32 = (71 : Int32) := by decide
theorem bp_72 : (Int8.ofInt (72)).toInt32 = (72 : Int32) := by decide
theorem bp_73 : (Int8.ofInt (73)).toInt32 = (73 : Int32) := by decide
theorem bp_74 : (Int8.ofInt (74)).toInt32 = (74 : Int32) := by decide
theorem bp_75 : (Int8.ofInt (75)).toInt32 = (75 : Int32) := by decide
theorem bp_76 : (Int8.ofInt (76)).toInt32 = (76 : Int32) := by decide
theorem bp_77 : (Int8.ofInt (77)).toInt32 = (77 : Int32) := by decide
theorem bp_78 : (Int8.ofInt (78)).toInt32 = (78 : Int32) := by decide
theorem bp_79 : (Int8.ofInt (79)).toInt32 = (79 : Int32) := by decide
theorem bp_80 : (Int8.ofInt (80)).toInt32 = (80 : Int32) := by decide
theorem bp_81 : (Int8.ofInt (81)).toInt32 = (81 : Int32) := by decide
theorem bp_82 : (Int8.ofInt (82)).toInt32 = (82 : Int32) := by decide
theorem bp_83 : (Int8.ofInt (83)).toInt32 = (83 : Int32) := by decide
theorem bp_84 : (Int8.ofInt (84)).toInt32 = (84 : Int32) := by decide
theorem bp_85 : (Int8.ofInt (85)).toInt32 = (85 : Int32) := by decide
theorem bp_86 : (Int8.ofInt (86)).toInt32 = (86 : Int32) := by decide
theorem bp_87 : (Int8.ofInt (87)).toInt32 = (87 : Int32) := by decide
theorem bp_88 : (Int8.ofInt (88)).toInt32 = (88 : Int32) := by decide
theorem bp_89 : (Int8.ofInt (89)).toInt32 = (89 : Int32) := by decide
theorem bp_90 : (Int8.ofInt (90)).toInt32 = (90 : Int32) := by decide
theorem bp_91 : (Int8.ofInt (91)).toInt32 = (91 : Int32) := by decide
theorem bp_92 : (Int8.ofInt (92)).toInt32 = (92 : Int32) := by decide
theorem bp_93 : (Int8.ofInt (93)).toInt32 = (93 : Int32) := by decide
theorem bp_94 : (Int8.ofInt (94)).toInt32 = (94 : Int32) := by decide
theorem bp_95 : (Int8.ofInt (95)).toInt32 = (95 : Int32) := by decide
theorem bp_98 : (Int8.ofInt (98)).toInt32 = (98 : Int32) := by decide
theorem bp_101 : (Int8.ofInt (101)).toInt32 = (101 : Int32) := by decide
theorem bp_102 : (Int8.ofInt (102)).toInt32 = (102 : Int32) := by decide
theorem bp_103 : (Int8.ofInt (103)).toInt32 = (103 : Int32) := by decide
theorem bp_104 : (Int8.ofInt (104)).toInt32 = (104 : Int32) := by decide
theorem bp_105 : (Int8.ofInt (105)).toInt32 = (105 : Int32) := by decide
theorem bp_106 : (Int8.ofInt (106)).toInt32 = (106 : Int32) := by decide
theorem bp_107 : (Int8.ofInt (107)).toInt32 = (107 : Int32) := by decide
theorem bp_108 : (Int8.ofInt (108)).toInt32 = (108 : Int32) := by decide
theorem bp_109 : (Int8.ofInt (109)).toInt32 = (109 : Int32) := by decide
theorem bp_110 : (Int8.ofInt (110)).toInt32 = (110 : Int32) := by decide
theorem bp_111 : (Int8.ofInt (111)).toInt32 = (111 : Int32) := by decide
theorem bp_112 : (Int8.ofInt (112)).toInt32 = (112 : Int32) := by decide
theorem bp_113 : (Int8.ofInt (113)).toInt32 = (113 : Int32) := by decide
theorem bp_114 : (Int8.ofInt (114)).toInt32 = (114 : Int32) := by decide
theorem bp_115 : (Int8.ofInt (115)).toInt32 = (115 : Int32) := by decide
theorem bp_116 : (Int8.ofInt (116)).toInt32 = (116 : Int32) := by decide
theorem bp_117 : (Int8.ofInt (117)).toInt32 = (117 : Int32) := by decide
theorem bp_118 : (Int8.ofInt (118)).toInt32 = (118 : Int32) := by decide
theorem bp_119 : (Int8.ofInt (119)).toInt32 = (119 : Int32) := by decide
theorem bp_120 : (Int8.ofInt (120)).toInt32 = (120 : Int32) := by decide
theorem bp_121 : (Int8.ofInt (121)).toInt32 = (121 : Int32) := by decide
theorem bp_123 : (Int8.ofInt (123)).toInt32 = (123 : Int32) := by decide
theorem bp_124 : (Int8.ofInt (124)).toInt32 = (124 : Int32) := by decide
theorem sp_128 : (Int16.ofInt (128)).toInt32 = (128 : Int32) := by decide
theorem sp_440 : (Int16.ofInt (440)).toInt32 = (440 : Int32) := by decide
theorem ymX2_init : y_ok yX2_init 1 := by unfold y_ok; decide +kernel
theorem ymX1_init : y_ok yX1_init 0 := by unfold y_ok; decide +kernel
theorem ymX10_init : y_ok yX10_init 0 := by unfold y_ok; decide +kernel
theorem ijX1_38_X1 : fl_f RX1 38 1 7 ∧ ft 1 7 = 2 := ⟨⟨_, _, _, ckX1, by decide, q445, rfl, rfl⟩, rfl⟩
theorem ijX1_56_X1 : fl_f RX1 56 1 0 ∧ ft 1 0 = 2 := ⟨⟨_, _, _, ckX1, by decide, q437, rfl, rfl⟩, rfl⟩
theorem ijX1_69_X1 : fl_f RX1 69 1 5 ∧ ft 1 5 = 2 := ⟨⟨_, _, _, ckX1, by decide, q442, rfl, rfl⟩, rfl⟩
theorem ijX1_88_X1 : fl_f RX1 88 1 8 ∧ ft 1 8 = 2 := ⟨⟨_, _, _, ckX1, by decide, q447, rfl, rfl⟩, rfl⟩
theorem ijX1_95_X1 : fl_f RX1 95 1 9 ∧ ft 1 9 = 2 := ⟨⟨_, _, _, ckX1, by decide, q449, rfl, rfl⟩, rfl⟩
theorem ijX1_99_X1 : fl_f RX1 99 1 10 ∧ ft 1 10 = 2 := ⟨⟨_, _, _, ckX1, by decide, q450, rfl, rfl⟩, rfl⟩
theorem ijX1_102_X1 : fl_f RX1 102 1 11 ∧ ft 1 11 = 2 := ⟨⟨_, _, _, ckX1, by decide, q451, rfl, rfl⟩, rfl⟩
theorem ijX1_105_X1 : fl_f RX1 105 1 12 ∧ ft 1 12 = 2 := ⟨⟨_, _, _, ckX1, by decide, q452, rfl, rfl⟩, rfl⟩
theorem ijX1_109_X1 : fl_f RX1 109 1 13 ∧ ft 1 13 = 2 := ⟨⟨_, _, _, ckX1, by decide, q453, rfl, rfl⟩, rfl⟩
theorem ijX1_112_X1 : fl_f RX1 112 1 15 ∧ ft 1 15 = 2 := ⟨⟨_, _, _, ckX1, by decide, q455, rfl, rfl⟩, rfl⟩
theorem ijX1_116_X1 : fl_f RX1 116 1 16 ∧ ft 1 16 = 2 := ⟨⟨_, _, _, ckX1, by decide, q456, rfl, rfl⟩, rfl⟩
theorem ijX1_119_X1 : fl_f RX1 119 1 19 ∧ ft 1 19 = 2 := ⟨⟨_, _, _, ckX1, by decide, q459, rfl, rfl⟩, rfl⟩
theorem ijX1_122_X1 : fl_f RX1 122 1 20 ∧ ft 1 20 = 2 := ⟨⟨_, _, _, ckX1, by decide, q460, rfl, rfl⟩, rfl⟩
theorem ijX1_128_X1 : fl_f RX1 128 1 21 ∧ ft 1 21 = 2 := ⟨⟨_, _, _, ckX1, by decide, q461, rfl, rfl⟩, rfl⟩
theorem ijX1_131_X1 : fl_f RX1 131 1 22 ∧ ft 1 22 = 2 := ⟨⟨_, _, _, ckX1, by decide, q462, rfl, rfl⟩, rfl⟩
theorem ijX10_7_X10 : fl_f RX10 7 0 0 ∧ ft 0 0 = 2 := ⟨⟨_, _, _, ckX10, by decide, q1607, rfl, rfl⟩, rfl⟩
theorem ijX10_13_X10 : fl_f RX10 13 0 3 ∧ ft 0 3 = 2 := ⟨⟨_, _, _, ckX10, by decide, q1610, rfl, rfl⟩, rfl⟩
theorem ijX10_20_X10 : fl_f RX10 20 0 22 ∧ ft 0 22 = 2 := ⟨⟨_, _, _, ckX10, by decide, q1629, rfl, rfl⟩, rfl⟩
theorem ijX10_24_X10 : fl_f RX10 24 0 23 ∧ ft 0 23 = 2 := ⟨⟨_, _, _, ckX10, by decide, q1630, rfl, rfl⟩, rfl⟩
theorem ijX10_27_X10 : fl_f RX10 27 0 24 ∧ ft 0 24 = 2 := ⟨⟨_, _, _, ckX10, by decide, q1631, rfl, rfl⟩, rfl⟩
theorem ijX10_30_X10 : fl_f RX10 30 0 25 ∧ ft 0 25 = 2 := ⟨⟨_, _, _, ckX10, by decide, q1632, rfl, rfl⟩, rfl⟩
theorem ijX10_33_X10 : fl_f RX10 33 0 26 ∧ ft 0 26 = 2 := ⟨⟨_, _, _, ckX10, by decide, q1633, rfl, rfl⟩, rfl⟩
theorem ijX10_36_X10 : fl_f RX10 36 0 27 ∧ ft 0 27 = 2 := ⟨⟨_, _, _, ckX10, by decide, q1634, rfl, rfl⟩, rfl⟩
theorem ijX10_39_X10 : fl_f RX10 39 0 28 ∧ ft 0 28 = 2 := ⟨⟨_, _, _, ckX10, by decide, q1635, rfl, rfl⟩, rfl⟩
theorem ijX10_42_X10 : fl_f RX10 42 0 29 ∧ ft 0 29 = 2 := ⟨⟨_, _, _, ckX10, by decide, q1636, rfl, rfl⟩, rfl⟩
theorem ijX10_45_X10 : fl_f RX10 45 0 30 ∧ ft 0 30 = 2 := ⟨⟨_, _, _, ckX10, by decide, q1637, rfl, rfl⟩, rfl⟩
theorem ijX10_48_X10 : fl_f RX10 48 0 31 ∧ ft 0 31 = 2 := ⟨⟨_, _, _, ckX10, by decide, q1638, rfl, rfl⟩, rfl⟩
theorem ijX10_51_X10 : fl_f RX10 51 0 32 ∧ ft 0 32 = 2 := ⟨⟨_, _, _, ckX10, by decide, q1639, rfl, rfl⟩, rfl⟩
theorem ijX10_54_X10 : fl_f RX10 54 0 33 ∧ ft 0 33 = 2 := ⟨⟨_, _, _, ckX10, by decide, q1640, rfl, rfl⟩, rfl⟩
theorem ijX10_57_X10 : fl_f RX10 57 0 34 ∧ ft 0 34 = 2 := ⟨⟨_, _, _, ckX10, by decide, q1641, rfl, rfl⟩, rfl⟩
theorem ijX10_60_X10 : fl_f RX10 60 0 35 ∧ ft 0 35 = 2 := ⟨⟨_, _, _, ckX10, by decide, q1642, rfl, rfl⟩, rfl⟩
theorem ijX10_63_X10 : fl_f RX10 63 0 36 ∧ ft 0 36 = 2 := ⟨⟨_, _, _, ckX10, by decide, q1643, rfl, rfl⟩, rfl⟩
theorem ijX10_66_X10 : fl_f RX10 66 0 37 ∧ ft 0 37 = 2 := ⟨⟨_, _, _, ckX10, by decide, q1644, rfl, rfl⟩, rfl⟩
theorem ijX10_69_X10 : fl_f RX10 69 0 38 ∧ ft 0 38 = 2 := ⟨⟨_, _, _, ckX10, by decide, q1645, rfl, rfl⟩, rfl⟩
theorem ijX10_72_X10 : fl_f RX10 72 0 39 ∧ ft 0 39 = 2 := ⟨⟨_, _, _, ckX10, by decide, q1646, rfl, rfl⟩, rfl⟩
theorem ijX10_75_X10 : fl_f RX10 75 0 40 ∧ ft 0 40 = 2 := ⟨⟨_, _, _, ckX10, by decide, q1647, rfl, rfl⟩, rfl⟩
theorem ijX10_78_X10 : fl_f RX10 78 0 41 ∧ ft 0 41 = 2 := ⟨⟨_, _, _, ckX10, by decide, q1648, rfl, rfl⟩, rfl⟩
theorem ijX10_81_X10 : fl_f RX10 81 0 42 ∧ ft 0 42 = 2 := ⟨⟨_, _, _, ckX10, by decide, q1649, rfl, rfl⟩, rfl⟩
theorem ijX10_84_X10 : fl_f RX10 84 0 43 ∧ ft 0 43 = 2 := ⟨⟨_, _, _, ckX10, by decide, q1650, rfl, rfl⟩, rfl⟩
theorem ijX10_87_X10 : fl_f RX10 87 0 44 ∧ ft 0 44 = 2 := ⟨⟨_, _, _, ckX10, by decide, q1651, rfl, rfl⟩, rfl⟩
theorem ijX10_90_X10 : fl_f RX10 90 0 45 ∧ ft 0 45 = 2 := ⟨⟨_, _, _, ckX10, by decide, q1652, rfl, rfl⟩, rfl⟩
theorem ijX10_93_X10 : fl_f RX10 93 0 52 ∧ ft 0 52 = 2 := ⟨⟨_, _, _, ckX10, by decide, q1659, rfl, rfl⟩, rfl⟩
theorem ijX10_97_X10 : fl_f RX10 97 0 53 ∧ ft 0 53 = 2 := ⟨⟨_, _, _, ckX10, by decide, q1660, rfl, rfl⟩, rfl⟩
theorem ijX10_100_X10 : fl_f RX10 100 0 55 ∧ ft 0 55 = 2 := ⟨⟨_, _, _, ckX10, by decide, q1662, rfl, rfl⟩, rfl⟩
theorem ijX10_103_X10 : fl_f RX10 103 0 56 ∧ ft 0 56 = 2 := ⟨⟨_, _, _, ckX10, by decide, q1663, rfl, rfl⟩, rfl⟩
theorem ijX10_106_X10 : fl_f RX10 106 0 57 ∧ ft 0 57 = 2 := ⟨⟨_, _, _, ckX10, by decide, q1664, rfl, rfl⟩, rfl⟩
theorem ijX10_109_X10 : fl_f RX10 109 0 58 ∧ ft 0 58 = 2 := ⟨⟨_, _, _, ckX10, by decide, q1665, rfl, rfl⟩, rfl⟩
theorem ijX10_112_X10 : fl_f RX10 112 0 59 ∧ ft 0 59 = 2 := ⟨⟨_, _, _, ckX10, by decide, q1666, rfl, rfl⟩, rfl⟩
theorem ijX10_115_X10 : fl_f RX10 115 0 68 ∧ ft 0 68 = 2 := ⟨⟨_, _, _, ckX10, by decide, q1675, rfl, rfl⟩, rfl⟩
theorem ijX10_118_X10 : fl_f RX10 118 0 69 ∧ ft 0 69 = 2 := ⟨⟨_, _, _, ckX10, by decide, q1676, rfl, rfl⟩, rfl⟩
theorem ijX10_121_X10 : fl_f RX10 121 0 70 ∧ ft 0 70 = 2 := ⟨⟨_, _, _, ckX10, by decide, q1677, rfl, rfl⟩, rfl⟩
theorem ijX10_127_X10 : fl_f RX10 127 0 73 ∧ ft 0 73 = 2 := ⟨⟨_, _, _, ckX10, by decide, q1680, rfl, rfl⟩, rfl⟩
theorem ijX10_130_X10 : fl_f RX10 130 0 74 ∧ ft 0 74 = 2 := ⟨⟨_, _, _, ckX10, by decide, q1681, rfl, rfl⟩, rfl⟩
theorem ijX10_133_X10 : fl_f RX10 133 0 76 ∧ ft 0 76 = 2 := ⟨⟨_, _, _, ckX10, by decide, q1683, rfl, rfl⟩, rfl⟩
theorem ijX10_136_X10 : fl_f RX10 136 0 77 ∧ ft 0 77 = 2 := ⟨⟨_, _, _, ckX10, by decide, q1684, rfl, rfl⟩, rfl⟩
theorem ijX10_139_X10 : fl_f RX10 139 0 79 ∧ ft 0 79 = 2 := ⟨⟨_, _, _, ckX10, by decide, q1686, rfl, rfl⟩, rfl⟩
theorem ijX2_3_X2 : fl_f RX2 3 2 8 ∧ ft 2 8 = 2 := ⟨⟨_, _, _, ckX2, by decide, q204, rfl, rfl⟩, rfl⟩
theorem ijX3_14_X3 : fl_f RX3 14 3 0 ∧ ft 3 0 = 2 := ⟨⟨_, _, _, ckX3, by decide, q261, rfl, rfl⟩, rfl⟩
theorem ijX3_20_X3 : fl_f RX3 20 3 1 ∧ ft 3 1 = 2 := ⟨⟨_, _, _, ckX3, by decide, q264, rfl, rfl⟩, rfl⟩
theorem ijX3_23_X3 : fl_f RX3 23 3 2 ∧ ft 3 2 = 2 := ⟨⟨_, _, _, ckX3, by decide, q268, rfl, rfl⟩, rfl⟩
theorem ijX3_26_X3 : fl_f RX3 26 3 3 ∧ ft 3 3 = 2 := ⟨⟨_, _, _, ckX3, by decide, q272, rfl, rfl⟩, rfl⟩
theorem ijX3_30_X3 : fl_f RX3 30 3 4 ∧ ft 3 4 = 2 := ⟨⟨_, _, _, ckX3, by decide, q275, rfl, rfl⟩, rfl⟩
theorem ijX3_33_X3 : fl_f RX3 33 3 5 ∧ ft 3 5 = 2 := ⟨⟨_, _, _, ckX3, by decide, q278, rfl, rfl⟩, rfl⟩
theorem ijX3_38_X3 : fl_f RX3 38 3 6 ∧ ft 3 6 = 2 := ⟨⟨_, _, _, ckX3, by decide, q281, rfl, rfl⟩, rfl⟩
theorem ijX9_3_X9 : fl_f RX9 3 5 10 ∧ ft 5 10 = 2 := ⟨⟨_, _, _, ckX9, by decide, q382, rfl, rfl⟩, rfl⟩
theorem ijX9_15_X9 : fl_f RX9 15 5 0 ∧ ft 5 0 = 2 := ⟨⟨_, _, _, ckX9, by decide, q361, rfl, rfl⟩, rfl⟩
theorem ijX9_19_X9 : fl_f RX9 19 5 1 ∧ ft 5 1 = 2 := ⟨⟨_, _, _, ckX9, by decide, q364, rfl, rfl⟩, rfl⟩
theorem ijX9_22_X9 : fl_f RX9 22 5 2 ∧ ft 5 2 = 2 := ⟨⟨_, _, _, ckX9, by decide, q366, rfl, rfl⟩, rfl⟩
theorem ijX9_25_X9 : fl_f RX9 25 5 3 ∧ ft 5 3 = 2 := ⟨⟨_, _, _, ckX9, by decide, q368, rfl, rfl⟩, rfl⟩
theorem igJ2_9_J2 : f_ok RJ2 9 4 1 ∧ ft 4 1 = 2 := ⟨Or.inl ⟨_, _, _, ckJ2, by decide, _, q247, Or.inl rfl⟩, rfl⟩
theorem igJ2_48_J2 : f_ok RJ2 48 4 2 ∧ ft 4 2 = 0 := ⟨Or.inl ⟨_, _, _, ckJ2, by decide, _, q248, Or.inl rfl⟩, rfl⟩
theorem igX1_13_X1 : f_ok RX1 13 1 6 ∧ ft 1 6 = 2 := ⟨Or.inl ⟨_, _, _, ckX1, by decide, _, q444, Or.inl rfl⟩, rfl⟩
theorem igX1_17_X3 : f_ok RX1 17 3 1 ∧ ft 3 1 = 2 := ⟨Or.inr ⟨_, _, _, "AskedCourt", ckX3, by decide, List.mem_of_getElem? (i := 0) rfl⟩, rfl⟩
theorem igX1_95_X1 : f_ok RX1 95 1 9 ∧ ft 1 9 = 2 := ⟨Or.inl ⟨_, _, _, ckX1, by decide, _, q449, Or.inl rfl⟩, rfl⟩
theorem igX1_109_X1 : f_ok RX1 109 1 13 ∧ ft 1 13 = 2 := ⟨Or.inl ⟨_, _, _, ckX1, by decide, _, q453, Or.inl rfl⟩, rfl⟩
theorem igX10_20_X10 : f_ok RX10 20 0 22 ∧ ft 0 22 = 2 := ⟨Or.inl ⟨_, _, _, ckX10, by decide, _, q1629, Or.inl rfl⟩, rfl⟩
theorem igX10_24_X10 : f_ok RX10 24 0 23 ∧ ft 0 23 = 2 := ⟨Or.inl ⟨_, _, _, ckX10, by decide, _, q1630, Or.inl rfl⟩, rfl⟩
theorem igX10_27_X10 : f_ok RX10 27 0 24 ∧ ft 0 24 = 2 := ⟨Or.inl ⟨_, _, _, ckX10, by decide, _, q1631, Or.inl rfl⟩, rfl⟩
theorem igX10_30_X10 : f_ok RX10 30 0 25 ∧ ft 0 25 = 2 := ⟨Or.inl ⟨_, _, _, ckX10, by decide, _, q1632, Or.inl rfl⟩, rfl⟩
theorem igX10_33_X10 : f_ok RX10 33 0 26 ∧ ft 0 26 = 2 := ⟨Or.inl ⟨_, _, _, ckX10, by decide, _, q1633, Or.inl rfl⟩, rfl⟩
theorem igX10_36_X10 : f_ok RX10 36 0 27 ∧ ft 0 27 = 2 := ⟨Or.inl ⟨_, _, _, ckX10, by decide, _, q1634, Or.inl rfl⟩, rfl⟩
theorem igX10_39_X10 : f_ok RX10 39 0 28 ∧ ft 0 28 = 2 := ⟨Or.inl ⟨_, _, _, ckX10, by decide, _, q1635, Or.inl rfl⟩, rfl⟩
theorem igX10_42_X10 : f_ok RX10 42 0 29 ∧ ft 0 29 = 2 := ⟨Or.inl ⟨_, _, _, ckX10, by decide, _, q1636, Or.inl rfl⟩, rfl⟩
theorem igX10_45_X10 : f_ok RX10 45 0 30 ∧ ft 0 30 = 2 := ⟨Or.inl ⟨_, _, _, ckX10, by decide, _, q1637, Or.inl rfl⟩, rfl⟩
theorem igX10_48_X10 : f_ok RX10 48 0 31 ∧ ft 0 31 = 2 := ⟨Or.inl ⟨_, _, _, ckX10, by decide, _, q1638, Or.inl rfl⟩, rfl⟩
theorem igX10_51_X10 : f_ok RX10 51 0 32 ∧ ft 0 32 = 2 := ⟨Or.inl ⟨_, _, _, ckX10, by decide, _, q1639, Or.inl rfl⟩, rfl⟩
theorem igX10_54_X10 : f_ok RX10 54 0 33 ∧ ft 0 33 = 2 := ⟨Or.inl ⟨_, _, _, ckX10, by decide, _, q1640, Or.inl rfl⟩, rfl⟩
theorem igX10_57_X10 : f_ok RX10 57 0 34 ∧ ft 0 34 = 2 := ⟨Or.inl ⟨_, _, _, ckX10, by decide, _, q1641, Or.inl rfl⟩, rfl⟩
theorem igX10_60_X10 : f_ok RX10 60 0 35 ∧ ft 0 35 = 2 := ⟨Or.inl ⟨_, _, _, ckX10, by decide, _, q1642, Or.inl rfl⟩, rfl⟩
theorem igX10_63_X10 : f_ok RX10 63 0 36 ∧ ft 0 36 = 2 := ⟨Or.inl ⟨_, _, _, ckX10, by decide, _, q1643, Or.inl rfl⟩, rfl⟩
theorem igX10_66_X10 : f_ok RX10 66 0 37 ∧ ft 0 37 = 2 := ⟨Or.inl ⟨_, _, _, ckX10, by decide, _, q1644, Or.inl rfl⟩, rfl⟩
theorem igX10_69_X10 : f_ok RX10 69 0 38 ∧ ft 0 38 = 2 := ⟨Or.inl ⟨_, _, _, ckX10, by decide, _, q1645, Or.inl rfl⟩, rfl⟩
theorem igX10_72_X10 : f_ok RX10 72 0 39 ∧ ft 0 39 = 2 := ⟨Or.inl ⟨_, _, _, ckX10, by decide, _, q1646, Or.inl rfl⟩, rfl⟩
theorem igX10_75_X10 : f_ok RX10 75 0 40 ∧ ft 0 40 = 2 := ⟨Or.inl ⟨_, _, _, ckX10, by decide, _, q1647, Or.inl rfl⟩, rfl⟩
theorem igX10_78_X10 : f_ok RX10 78 0 41 ∧ ft 0 41 = 2 := ⟨Or.inl ⟨_, _, _, ckX10, by decide, _, q1648, Or.inl rfl⟩, rfl⟩
theorem igX10_81_X10 : f_ok RX10 81 0 42 ∧ ft 0 42 = 2 := ⟨Or.inl ⟨_, _, _, ckX10, by decide, _, q1649, Or.inl rfl⟩, rfl⟩
theorem igX10_84_X10 : f_ok RX10 84 0 43 ∧ ft 0 43 = 2 := ⟨Or.inl ⟨_, _, _, ckX10, by decide, _, q1650, Or.inl rfl⟩, rfl⟩
theorem igX10_100_X10 : f_ok RX10 100 0 55 ∧ ft 0 55 = 2 := ⟨Or.inl ⟨_, _, _, ckX10, by decide, _, q1662, Or.inl rfl⟩, rfl⟩
theorem igX10_103_X10 : f_ok RX10 103 0 56 ∧ ft 0 56 = 2 := ⟨Or.inl ⟨_, _, _, ckX10, by decide, _, q1663, Or.inl rfl⟩, rfl⟩
theorem igX10_106_X10 : f_ok RX10 106 0 57 ∧ ft 0 57 = 2 := ⟨Or.inl ⟨_, _, _, ckX10, by decide, _, q1664, Or.inl rfl⟩, rfl⟩
theorem igX10_109_X10 : f_ok RX10 109 0 58 ∧ ft 0 58 = 2 := ⟨Or.inl ⟨_, _, _, ckX10, by decide, _, q1665, Or.inl rfl⟩, rfl⟩
theorem igX10_112_X10 : f_ok RX10 112 0 59 ∧ ft 0 59 = 2 := ⟨Or.inl ⟨_, _, _, ckX10, by decide, _, q1666, Or.inl rfl⟩, rfl⟩
theorem igX10_210_X10 : f_ok RX10 210 0 17 ∧ ft 0 17 = 0 := ⟨Or.inl ⟨_, _, _, ckX10, by decide, _, q1624, Or.inl rfl⟩, rfl⟩
theorem igX10_213_X10 : f_ok RX10 213 0 18 ∧ ft 0 18 = 0 := ⟨Or.inl ⟨_, _, _, ckX10, by decide, _, q1625, Or.inl rfl⟩, rfl⟩
theorem igX10_216_X10 : f_ok RX10 216 0 19 ∧ ft 0 19 = 0 := ⟨Or.inl ⟨_, _, _, ckX10, by decide, _, q1626, Or.inl rfl⟩, rfl⟩
theorem igX10_219_X10 : f_ok RX10 219 0 20 ∧ ft 0 20 = 0 := ⟨Or.inl ⟨_, _, _, ckX10, by decide, _, q1627, Or.inl rfl⟩, rfl⟩
theorem igX10_222_X10 : f_ok RX10 222 0 21 ∧ ft 0 21 = 0 := ⟨Or.inl ⟨_, _, _, ckX10, by decide, _, q1628, Or.inl rfl⟩, rfl⟩
theorem igX10_231_X10 : f_ok RX10 231 0 13 ∧ ft 0 13 = 0 := ⟨Or.inl ⟨_, _, _, ckX10, by decide, _, q1620, Or.inl rfl⟩, rfl⟩
theorem igX9_3_X9 : f_ok RX9 3 5 10 ∧ ft 5 10 = 2 := ⟨Or.inl ⟨_, _, _, ckX9, by decide, _, q382, Or.inl rfl⟩, rfl⟩
theorem igX9_15_X9 : f_ok RX9 15 5 0 ∧ ft 5 0 = 2 := ⟨Or.inl ⟨_, _, _, ckX9, by decide, _, q361, Or.inl rfl⟩, rfl⟩
theorem igX9_19_X9 : f_ok RX9 19 5 1 ∧ ft 5 1 = 2 := ⟨Or.inl ⟨_, _, _, ckX9, by decide, _, q364, Or.inl rfl⟩, rfl⟩
theorem igX9_22_X9 : f_ok RX9 22 5 2 ∧ ft 5 2 = 2 := ⟨Or.inl ⟨_, _, _, ckX9, by decide, _, q366, Or.inl rfl⟩, rfl⟩
theorem igX9_25_X9 : f_ok RX9 25 5 3 ∧ ft 5 3 = 2 := ⟨Or.inl ⟨_, _, _, ckX9, by decide, _, q368, Or.inl rfl⟩, rfl⟩
theorem igX9_32_X1 : f_ok RX9 32 1 6 ∧ ft 1 6 = 2 := ⟨Or.inr ⟨_, _, _, "AskedCourt", ckX1, by decide, List.mem_of_getElem? (i := 50) rfl⟩, rfl⟩
theorem igX9_36_X3 : f_ok RX9 36 3 1 ∧ ft 3 1 = 2 := ⟨Or.inr ⟨_, _, _, "AskedCourt", ckX3, by decide, List.mem_of_getElem? (i := 51) rfl⟩, rfl⟩
theorem igX9_49_X13 : f_ok RX9 49 7 4 ∧ ft 7 4 = 0 := ⟨Or.inr ⟨_, _, _, "AskedCourt", ckX13, by decide, List.mem_of_getElem? (i := 52) rfl⟩, rfl⟩
theorem igX9_52_X13 : f_ok RX9 52 7 3 ∧ ft 7 3 = 0 := ⟨Or.inr ⟨_, _, _, "AskedCourt", ckX13, by decide, List.mem_of_getElem? (i := 53) rfl⟩, rfl⟩
theorem igX9_60_X3 : f_ok RX9 60 3 9 ∧ ft 3 9 = 0 := ⟨Or.inr ⟨_, _, _, "AskedCourt", ckX3, by decide, List.mem_of_getElem? (i := 54) rfl⟩, rfl⟩
theorem iwJ1_7_J2 : f_w RJ1 7 4 0 ∧ (4 ≠ 19 ∧ jty 4 0 = .int) := ⟨Or.inl ⟨_, _, _, ckJ2, by decide, ⟨_, q249, Or.inl rfl⟩, rfl⟩, by decide, rfl⟩
theorem iwJ2_9_J2 : f_w RJ2 9 4 1 ∧ ft 4 1 = 2 := ⟨Or.inl ⟨_, _, _, ckJ2, by decide, ⟨_, q247, Or.inl rfl⟩, rfl⟩, rfl⟩
theorem iwX1_13_X1 : f_w RX1 13 1 6 ∧ ft 1 6 = 2 := ⟨Or.inl ⟨_, _, _, ckX1, by decide, ⟨_, q444, Or.inl rfl⟩, rfl⟩, rfl⟩
theorem iwX1_60_X1 : f_w RX1 60 1 3 ∧ (1 ≠ 19 ∧ jty 1 3 = .int) := ⟨Or.inl ⟨_, _, _, ckX1, by decide, ⟨_, q440, Or.inl rfl⟩, rfl⟩, by decide, rfl⟩
theorem iwX1_135_X1 : f_w RX1 135 1 23 ∧ (1 ≠ 19 ∧ jty 1 23 = .int) := ⟨Or.inl ⟨_, _, _, ckX1, by decide, ⟨_, q463, Or.inl rfl⟩, rfl⟩, by decide, rfl⟩
theorem iwX10_16_X10 : f_w RX10 16 0 5 ∧ (0 ≠ 19 ∧ jty 0 5 = .int) := ⟨Or.inl ⟨_, _, _, ckX10, by decide, ⟨_, q1612, Or.inl rfl⟩, rfl⟩, by decide, rfl⟩
theorem iwX10_124_X10 : f_w RX10 124 0 72 ∧ (0 ≠ 19 ∧ jty 0 72 = .int) := ⟨Or.inl ⟨_, _, _, ckX10, by decide, ⟨_, q1679, Or.inl rfl⟩, rfl⟩, by decide, rfl⟩
theorem iwX10_210_X10 : f_w RX10 210 0 17 ∧ (0 ≠ 19 ∧ jty 0 17 = .int) := ⟨Or.inl ⟨_, _, _, ckX10, by decide, ⟨_, q1624, Or.inl rfl⟩, rfl⟩, by decide, rfl⟩
theorem iwX10_213_X10 : f_w RX10 213 0 18 ∧ (0 ≠ 19 ∧ jty 0 18 = .int) := ⟨Or.inl ⟨_, _, _, ckX10, by decide, ⟨_, q1625, Or.inl rfl⟩, rfl⟩, by decide, rfl⟩
theorem iwX10_216_X10 : f_w RX10 216 0 19 ∧ (0 ≠ 19 ∧ jty 0 19 = .int) := ⟨Or.inl ⟨_, _, _, ckX10, by decide, ⟨_, q1626, Or.inl rfl⟩, rfl⟩, by decide, rfl⟩
theorem iwX10_219_X10 : f_w RX10 219 0 20 ∧ (0 ≠ 19 ∧ jty 0 20 = .int) := ⟨Or.inl ⟨_, _, _, ckX10, by decide, ⟨_, q1627, Or.inl rfl⟩, rfl⟩, by decide, rfl⟩
theorem iwX10_222_X10 : f_w RX10 222 0 21 ∧ (0 ≠ 19 ∧ jty 0 21 = .int) := ⟨Or.inl ⟨_, _, _, ckX10, by decide, ⟨_, q1628, Or.inl rfl⟩, rfl⟩, by decide, rfl⟩
theorem iwX10_225_X10 : f_w RX10 225 0 49 ∧ (0 ≠ 19 ∧ jty 0 49 = .int) := ⟨Or.inl ⟨_, _, _, ckX10, by decide, ⟨_, q1656, Or.inl rfl⟩, rfl⟩, by decide, rfl⟩
theorem iwX10_228_X10 : f_w RX10 228 0 12 ∧ (0 ≠ 19 ∧ jty 0 12 = .int) := ⟨Or.inl ⟨_, _, _, ckX10, by decide, ⟨_, q1619, Or.inl rfl⟩, rfl⟩, by decide, rfl⟩
theorem iwX10_231_X10 : f_w RX10 231 0 13 ∧ (0 ≠ 19 ∧ jty 0 13 = .int) := ⟨Or.inl ⟨_, _, _, ckX10, by decide, ⟨_, q1620, Or.inl rfl⟩, rfl⟩, by decide, rfl⟩
theorem iwX10_234_X10 : f_w RX10 234 0 14 ∧ (0 ≠ 19 ∧ jty 0 14 = .int) := ⟨Or.inl ⟨_, _, _, ckX10, by decide, ⟨_, q1621, Or.inl rfl⟩, rfl⟩, by decide, rfl⟩
theorem iwX10_237_X10 : f_w RX10 237 0 15 ∧ (0 ≠ 19 ∧ jty 0 15 = .int) := ⟨Or.inl ⟨_, _, _, ckX10, by decide, ⟨_, q1622, Or.inl rfl⟩, rfl⟩, by decide, rfl⟩
theorem iwX10_240_X10 : f_w RX10 240 0 16 ∧ (0 ≠ 19 ∧ jty 0 16 = .int) := ⟨Or.inl ⟨_, _, _, ckX10, by decide, ⟨_, q1623, Or.inl rfl⟩, rfl⟩, by decide, rfl⟩
theorem iwX10_364_X10 : f_w RX10 364 0 60 ∧ (0 ≠ 19 ∧ jty 0 60 = .int) := ⟨Or.inl ⟨_, _, _, ckX10, by decide, ⟨_, q1667, Or.inl rfl⟩, rfl⟩, by decide, rfl⟩
theorem iwX10_367_X10 : fl_w RX10 367 0 61 ∧ (0 ≠ 19 ∧ jty 0 61 = .long) := ⟨⟨_, _, _, ckX10, by decide, ⟨_, q1668, Or.inl rfl⟩, rfl⟩, by decide, rfl⟩
theorem iwX10_374_X10 : f_w RX10 374 0 71 ∧ (0 ≠ 19 ∧ jty 0 71 = .int) := ⟨Or.inl ⟨_, _, _, ckX10, by decide, ⟨_, q1678, Or.inl rfl⟩, rfl⟩, by decide, rfl⟩
theorem iwX10_377_X10 : f_w RX10 377 0 75 ∧ (0 ≠ 19 ∧ jty 0 75 = .int) := ⟨Or.inl ⟨_, _, _, ckX10, by decide, ⟨_, q1682, Or.inl rfl⟩, rfl⟩, by decide, rfl⟩
theorem iwX10_380_X10 : f_w RX10 380 0 78 ∧ (0 ≠ 19 ∧ jty 0 78 = .boolean) := ⟨Or.inl ⟨_, _, _, ckX10, by decide, ⟨_, q1685, Or.inl rfl⟩, rfl⟩, by decide, rfl⟩
theorem iwX10_383_X10 : f_w RX10 383 0 62 ∧ (0 ≠ 19 ∧ jty 0 62 = .boolean) := ⟨Or.inl ⟨_, _, _, ckX10, by decide, ⟨_, q1669, Or.inl rfl⟩, rfl⟩, by decide, rfl⟩
theorem iwX10_386_X10 : f_w RX10 386 0 63 ∧ (0 ≠ 19 ∧ jty 0 63 = .boolean) := ⟨Or.inl ⟨_, _, _, ckX10, by decide, ⟨_, q1670, Or.inl rfl⟩, rfl⟩, by decide, rfl⟩
theorem iwX10_389_X10 : f_w RX10 389 0 64 ∧ (0 ≠ 19 ∧ jty 0 64 = .boolean) := ⟨Or.inl ⟨_, _, _, ckX10, by decide, ⟨_, q1671, Or.inl rfl⟩, rfl⟩, by decide, rfl⟩
theorem iwX10_392_X10 : f_w RX10 392 0 65 ∧ (0 ≠ 19 ∧ jty 0 65 = .boolean) := ⟨Or.inl ⟨_, _, _, ckX10, by decide, ⟨_, q1672, Or.inl rfl⟩, rfl⟩, by decide, rfl⟩
theorem iwX10_395_X10 : f_w RX10 395 0 66 ∧ (0 ≠ 19 ∧ jty 0 66 = .int) := ⟨Or.inl ⟨_, _, _, ckX10, by decide, ⟨_, q1673, Or.inl rfl⟩, rfl⟩, by decide, rfl⟩
theorem iwX10_398_X10 : f_w RX10 398 0 67 ∧ (0 ≠ 19 ∧ jty 0 67 = .int) := ⟨Or.inl ⟨_, _, _, ckX10, by decide, ⟨_, q1674, Or.inl rfl⟩, rfl⟩, by decide, rfl⟩
theorem iwX3_42_X3 : f_w RX3 42 3 8 ∧ (3 ≠ 19 ∧ jty 3 8 = .int) := ⟨Or.inl ⟨_, _, _, ckX3, by decide, ⟨_, q286, Or.inl rfl⟩, rfl⟩, by decide, rfl⟩
theorem iwX9_54_X9 : f_w RX9 54 5 4 ∧ (5 ≠ 19 ∧ jty 5 4 = .int) := ⟨Or.inl ⟨_, _, _, ckX9, by decide, ⟨_, q370, Or.inl rfl⟩, rfl⟩, by decide, rfl⟩
theorem iwX9_57_X9 : f_w RX9 57 5 5 ∧ (5 ≠ 19 ∧ jty 5 5 = .int) := ⟨Or.inl ⟨_, _, _, ckX9, by decide, ⟨_, q372, Or.inl rfl⟩, rfl⟩, by decide, rfl⟩
theorem iwX9_63_X9 : f_w RX9 63 5 6 ∧ (5 ≠ 19 ∧ jty 5 6 = .int) := ⟨Or.inl ⟨_, _, _, ckX9, by decide, ⟨_, q374, Or.inl rfl⟩, rfl⟩, by decide, rfl⟩
theorem iwX9_66_X9 : f_w RX9 66 5 7 ∧ (5 ≠ 19 ∧ jty 5 7 = .int) := ⟨Or.inl ⟨_, _, _, ckX9, by decide, ⟨_, q376, Or.inl rfl⟩, rfl⟩, by decide, rfl⟩
theorem iwX9_69_X9 : f_w RX9 69 5 9 ∧ (5 ≠ 19 ∧ jty 5 9 = .int) := ⟨Or.inl ⟨_, _, _, ckX9, by decide, ⟨_, q380, Or.inl rfl⟩, rfl⟩, by decide, rfl⟩
