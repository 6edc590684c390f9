set_option maxRecDepth 100000
def dkwX10_isKey_0 : List UInt8 := [42, 180, 0, 166, 4, 160, 0, 15, 42, 180, 0, 177, 27, 160, 0, 7, 4, 167, 0, 4, 3, 172]
abbrev dktX10_isKey_0 : List UInt8 := dkwX10_isKey_0 ++ []
theorem dksX10_isKey_0 : cX10_isKey.data.toList.drop 0 = dktX10_isKey_0 := by decide +kernel
theorem dX10_isKey_0 : decode cX10_isKey 0 = .ok (.aload_n 0, 1) := dk_42 (dk_at dksX10_isKey_0 0 rfl rfl)
theorem dX10_isKey_1 : decode cX10_isKey 1 = .ok (.getfield 166, 3) := dk_180 0 166 (dk_at dksX10_isKey_0 1 rfl rfl)
theorem dX10_isKey_4 : decode cX10_isKey 4 = .ok (.iconst 1, 1) := dk_4 (dk_at dksX10_isKey_0 4 rfl rfl)
theorem dX10_isKey_5 : decode cX10_isKey 5 = .ok (.if_icmp .ne 15, 3) := dk_160 0 15 (dk_at dksX10_isKey_0 5 rfl rfl)
theorem dX10_isKey_8 : decode cX10_isKey 8 = .ok (.aload_n 0, 1) := dk_42 (dk_at dksX10_isKey_0 8 rfl rfl)
theorem dX10_isKey_9 : decode cX10_isKey 9 = .ok (.getfield 177, 3) := dk_180 0 177 (dk_at dksX10_isKey_0 9 rfl rfl)
theorem dX10_isKey_12 : decode cX10_isKey 12 = .ok (.iload_n 1, 1) := dk_27 (dk_at dksX10_isKey_0 12 rfl rfl)
theorem dX10_isKey_13 : decode cX10_isKey 13 = .ok (.if_icmp .ne 7, 3) := dk_160 0 7 (dk_at dksX10_isKey_0 13 rfl rfl)
theorem dX10_isKey_16 : decode cX10_isKey 16 = .ok (.iconst 1, 1) := dk_4 (dk_at dksX10_isKey_0 16 rfl rfl)
theorem dX10_isKey_17 : decode cX10_isKey 17 = .ok (.goto 4, 3) := dk_167 0 4 (dk_at dksX10_isKey_0 17 rfl rfl)
theorem dX10_isKey_20 : decode cX10_isKey 20 = .ok (.iconst 0, 1) := dk_3 (dk_at dksX10_isKey_0 20 rfl rfl)
theorem dX10_isKey_21 : decode cX10_isKey 21 = .ok (.ireturn, 1) := dk_172 (dk_at dksX10_isKey_0 21 rfl rfl)
def dkwX10_talkLine_6 : List UInt8 := [42, 89, 180, 0, 219, 4, 96, 181, 0, 219, 4, 172]
abbrev dktX10_talkLine_6 : List UInt8 := dkwX10_talkLine_6 ++ []
def dkwX10_talkLine_5 : List UInt8 := [16, 8, 42, 180, 0, 216, 182, 1, 1, 154, 0, 5, 3, 172, 42, 180, 0, 66, 27, 42, 180, 0, 197, 79]
abbrev dktX10_talkLine_5 : List UInt8 := dkwX10_talkLine_5 ++ dktX10_talkLine_6
def dkwX10_talkLine_4 : List UInt8 := [180, 0, 60, 27, 46, 160, 0, 14, 42, 28, 181, 0, 157, 42, 8, 182, 0, 190, 172, 42, 42, 180, 0, 45]
abbrev dktX10_talkLine_4 : List UInt8 := dkwX10_talkLine_4 ++ dktX10_talkLine_5
def dkwX10_talkLine_3 : List UInt8 := [182, 1, 1, 154, 0, 5, 3, 172, 42, 180, 0, 63, 27, 42, 180, 0, 197, 79, 42, 180, 0, 197, 42]
abbrev dktX10_talkLine_3 : List UInt8 := dkwX10_talkLine_3 ++ dktX10_talkLine_4
def dkwX10_talkLine_2 : List UInt8 := [180, 0, 60, 27, 42, 180, 0, 197, 79, 42, 180, 0, 157, 61, 42, 42, 180, 0, 30, 8, 42, 180, 0, 213]
abbrev dktX10_talkLine_2 : List UInt8 := dkwX10_talkLine_2 ++ dktX10_talkLine_3
def dkwX10_talkLine_1 : List UInt8 := [180, 0, 219, 96, 60, 42, 42, 180, 0, 30, 8, 42, 180, 0, 213, 182, 1, 1, 154, 0, 5, 3, 172, 42]
abbrev dktX10_talkLine_1 : List UInt8 := dkwX10_talkLine_1 ++ dktX10_talkLine_2
def dkwX10_talkLine_0 : List UInt8 := [42, 180, 0, 219, 16, 10, 160, 0, 9, 42, 5, 182, 0, 190, 172, 42, 182, 0, 200, 16, 10, 42]
abbrev dktX10_talkLine_0 : List UInt8 := dkwX10_talkLine_0 ++ dktX10_talkLine_1
theorem dksX10_talkLine_0 : cX10_talkLine.data.toList.drop 0 = dktX10_talkLine_0 := by decide +kernel
theorem dksX10_talkLine_1 : cX10_talkLine.data.toList.drop 22 = dktX10_talkLine_1 := dk_seg dksX10_talkLine_0 22 rfl rfl
theorem dksX10_talkLine_2 : cX10_talkLine.data.toList.drop 46 = dktX10_talkLine_2 := dk_seg dksX10_talkLine_1 24 rfl rfl
theorem dksX10_talkLine_3 : cX10_talkLine.data.toList.drop 70 = dktX10_talkLine_3 := dk_seg dksX10_talkLine_2 24 rfl rfl
theorem dksX10_talkLine_4 : cX10_talkLine.data.toList.drop 93 = dktX10_talkLine_4 := dk_seg dksX10_talkLine_3 23 rfl rfl
theorem dksX10_talkLine_5 : cX10_talkLine.data.toList.drop 117 = dktX10_talkLine_5 := dk_seg dksX10_talkLine_4 24 rfl rfl
theorem dksX10_talkLine_6 : cX10_talkLine.data.toList.drop 141 = dktX10_talkLine_6 := dk_seg dksX10_talkLine_5 24 rfl rfl
theorem dX10_talkLine_0 : decode cX10_talkLine 0 = .ok (.aload_n 0, 1) := dk_42 (dk_at dksX10_talkLine_0 0 rfl rfl)
theorem dX10_talkLine_1 : decode cX10_talkLine 1 = .ok (.getfield 219, 3) := dk_180 0 219 (dk_at dksX10_talkLine_0 1 rfl rfl)
theorem dX10_talkLine_4 : decode cX10_talkLine 4 = .ok (.bipush 10, 2) := dk_16 10 (dk_at dksX10_talkLine_0 4 rfl rfl)
theorem dX10_talkLine_6 : decode cX10_talkLine 6 = .ok (.if_icmp .ne 9, 3) := dk_160 0 9 (dk_at dksX10_talkLine_0 6 rfl rfl)
theorem dX10_talkLine_9 : decode cX10_talkLine 9 = .ok (.aload_n 0, 1) := dk_42 (dk_at dksX10_talkLine_0 9 rfl rfl)
theorem dX10_talkLine_10 : decode cX10_talkLine 10 = .ok (.iconst 2, 1) := dk_5 (dk_at dksX10_talkLine_0 10 rfl rfl)
theorem dX10_talkLine_11 : decode cX10_talkLine 11 = .ok (.invokevirtual 190, 3) := dk_182 0 190 (dk_at dksX10_talkLine_0 11 rfl rfl)
theorem dX10_talkLine_14 : decode cX10_talkLine 14 = .ok (.ireturn, 1) := dk_172 (dk_at dksX10_talkLine_0 14 rfl rfl)
theorem dX10_talkLine_15 : decode cX10_talkLine 15 = .ok (.aload_n 0, 1) := dk_42 (dk_at dksX10_talkLine_0 15 rfl rfl)
theorem dX10_talkLine_16 : decode cX10_talkLine 16 = .ok (.invokevirtual 200, 3) := dk_182 0 200 (dk_at dksX10_talkLine_0 16 rfl rfl)
theorem dX10_talkLine_19 : decode cX10_talkLine 19 = .ok (.bipush 10, 2) := dk_16 10 (dk_at dksX10_talkLine_0 19 rfl rfl)
theorem dX10_talkLine_21 : decode cX10_talkLine 21 = .ok (.aload_n 0, 1) := dk_42 (dk_at dksX10_talkLine_0 21 rfl rfl)
theorem dX10_talkLine_22 : decode cX10_talkLine 22 = .ok (.getfield 219, 3) := dk_180 0 219 (dk_at dksX10_talkLine_1 0 rfl rfl)
theorem dX10_talkLine_25 : decode cX10_talkLine 25 = .ok (.iadd, 1) := dk_96 (dk_at dksX10_talkLine_1 3 rfl rfl)
theorem dX10_talkLine_26 : decode cX10_talkLine 26 = .ok (.istore_n 1, 1) := dk_60 (dk_at dksX10_talkLine_1 4 rfl rfl)
theorem dX10_talkLine_27 : decode cX10_talkLine 27 = .ok (.aload_n 0, 1) := dk_42 (dk_at dksX10_talkLine_1 5 rfl rfl)
theorem dX10_talkLine_28 : decode cX10_talkLine 28 = .ok (.aload_n 0, 1) := dk_42 (dk_at dksX10_talkLine_1 6 rfl rfl)
theorem dX10_talkLine_29 : decode cX10_talkLine 29 = .ok (.getfield 30, 3) := dk_180 0 30 (dk_at dksX10_talkLine_1 7 rfl rfl)
theorem dX10_talkLine_32 : decode cX10_talkLine 32 = .ok (.iconst 5, 1) := dk_8 (dk_at dksX10_talkLine_1 10 rfl rfl)
theorem dX10_talkLine_33 : decode cX10_talkLine 33 = .ok (.aload_n 0, 1) := dk_42 (dk_at dksX10_talkLine_1 11 rfl rfl)
theorem dX10_talkLine_34 : decode cX10_talkLine 34 = .ok (.getfield 213, 3) := dk_180 0 213 (dk_at dksX10_talkLine_1 12 rfl rfl)
theorem dX10_talkLine_37 : decode cX10_talkLine 37 = .ok (.invokevirtual 257, 3) := dk_182 1 1 (dk_at dksX10_talkLine_1 15 rfl rfl)
theorem dX10_talkLine_40 : decode cX10_talkLine 40 = .ok (.ifCond .ne 5, 3) := dk_154 0 5 (dk_at dksX10_talkLine_1 18 rfl rfl)
theorem dX10_talkLine_43 : decode cX10_talkLine 43 = .ok (.iconst 0, 1) := dk_3 (dk_at dksX10_talkLine_1 21 rfl rfl)
theorem dX10_talkLine_44 : decode cX10_talkLine 44 = .ok (.ireturn, 1) := dk_172 (dk_at dksX10_talkLine_1 22 rfl rfl)
theorem dX10_talkLine_45 : decode cX10_talkLine 45 = .ok (.aload_n 0, 1) := dk_42 (dk_at dksX10_talkLine_1 23 rfl rfl)
theorem dX10_talkLine_46 : decode cX10_talkLine 46 = .ok (.getfield 60, 3) := dk_180 0 60 (dk_at dksX10_talkLine_2 0 rfl rfl)
theorem dX10_talkLine_49 : decode cX10_talkLine 49 = .ok (.iload_n 1, 1) := dk_27 (dk_at dksX10_talkLine_2 3 rfl rfl)
theorem dX10_talkLine_50 : decode cX10_talkLine 50 = .ok (.aload_n 0, 1) := dk_42 (dk_at dksX10_talkLine_2 4 rfl rfl)
theorem dX10_talkLine_51 : decode cX10_talkLine 51 = .ok (.getfield 197, 3) := dk_180 0 197 (dk_at dksX10_talkLine_2 5 rfl rfl)
theorem dX10_talkLine_54 : decode cX10_talkLine 54 = .ok (.iastore, 1) := dk_79 (dk_at dksX10_talkLine_2 8 rfl rfl)
theorem dX10_talkLine_55 : decode cX10_talkLine 55 = .ok (.aload_n 0, 1) := dk_42 (dk_at dksX10_talkLine_2 9 rfl rfl)
theorem dX10_talkLine_56 : decode cX10_talkLine 56 = .ok (.getfield 157, 3) := dk_180 0 157 (dk_at dksX10_talkLine_2 10 rfl rfl)
theorem dX10_talkLine_59 : decode cX10_talkLine 59 = .ok (.istore_n 2, 1) := dk_61 (dk_at dksX10_talkLine_2 13 rfl rfl)
theorem dX10_talkLine_60 : decode cX10_talkLine 60 = .ok (.aload_n 0, 1) := dk_42 (dk_at dksX10_talkLine_2 14 rfl rfl)
theorem dX10_talkLine_61 : decode cX10_talkLine 61 = .ok (.aload_n 0, 1) := dk_42 (dk_at dksX10_talkLine_2 15 rfl rfl)
theorem dX10_talkLine_62 : decode cX10_talkLine 62 = .ok (.getfield 30, 3) := dk_180 0 30 (dk_at dksX10_talkLine_2 16 rfl rfl)
theorem dX10_talkLine_65 : decode cX10_talkLine 65 = .ok (.iconst 5, 1) := dk_8 (dk_at dksX10_talkLine_2 19 rfl rfl)
theorem dX10_talkLine_66 : decode cX10_talkLine 66 = .ok (.aload_n 0, 1) := dk_42 (dk_at dksX10_talkLine_2 20 rfl rfl)
theorem dX10_talkLine_67 : decode cX10_talkLine 67 = .ok (.getfield 213, 3) := dk_180 0 213 (dk_at dksX10_talkLine_2 21 rfl rfl)
theorem dX10_talkLine_70 : decode cX10_talkLine 70 = .ok (.invokevirtual 257, 3) := dk_182 1 1 (dk_at dksX10_talkLine_3 0 rfl rfl)
theorem dX10_talkLine_73 : decode cX10_talkLine 73 = .ok (.ifCond .ne 5, 3) := dk_154 0 5 (dk_at dksX10_talkLine_3 3 rfl rfl)
theorem dX10_talkLine_76 : decode cX10_talkLine 76 = .ok (.iconst 0, 1) := dk_3 (dk_at dksX10_talkLine_3 6 rfl rfl)
theorem dX10_talkLine_77 : decode cX10_talkLine 77 = .ok (.ireturn, 1) := dk_172 (dk_at dksX10_talkLine_3 7 rfl rfl)
theorem dX10_talkLine_78 : decode cX10_talkLine 78 = .ok (.aload_n 0, 1) := dk_42 (dk_at dksX10_talkLine_3 8 rfl rfl)
theorem dX10_talkLine_79 : decode cX10_talkLine 79 = .ok (.getfield 63, 3) := dk_180 0 63 (dk_at dksX10_talkLine_3 9 rfl rfl)
theorem dX10_talkLine_82 : decode cX10_talkLine 82 = .ok (.iload_n 1, 1) := dk_27 (dk_at dksX10_talkLine_3 12 rfl rfl)
theorem dX10_talkLine_83 : decode cX10_talkLine 83 = .ok (.aload_n 0, 1) := dk_42 (dk_at dksX10_talkLine_3 13 rfl rfl)
theorem dX10_talkLine_84 : decode cX10_talkLine 84 = .ok (.getfield 197, 3) := dk_180 0 197 (dk_at dksX10_talkLine_3 14 rfl rfl)
theorem dX10_talkLine_87 : decode cX10_talkLine 87 = .ok (.iastore, 1) := dk_79 (dk_at dksX10_talkLine_3 17 rfl rfl)
theorem dX10_talkLine_88 : decode cX10_talkLine 88 = .ok (.aload_n 0, 1) := dk_42 (dk_at dksX10_talkLine_3 18 rfl rfl)
theorem dX10_talkLine_89 : decode cX10_talkLine 89 = .ok (.getfield 197, 3) := dk_180 0 197 (dk_at dksX10_talkLine_3 19 rfl rfl)
theorem dX10_talkLine_92 : decode cX10_talkLine 92 = .ok (.aload_n 0, 1) := dk_42 (dk_at dksX10_talkLine_3 22 rfl rfl)
theorem dX10_talkLine_93 : decode cX10_talkLine 93 = .ok (.getfield 60, 3) := dk_180 0 60 (dk_at dksX10_talkLine_4 0 rfl rfl)
theorem dX10_talkLine_96 : decode cX10_talkLine 96 = .ok (.iload_n 1, 1) := dk_27 (dk_at dksX10_talkLine_4 3 rfl rfl)
theorem dX10_talkLine_97 : decode cX10_talkLine 97 = .ok (.iaload, 1) := dk_46 (dk_at dksX10_talkLine_4 4 rfl rfl)
theorem dX10_talkLine_98 : decode cX10_talkLine 98 = .ok (.if_icmp .ne 14, 3) := dk_160 0 14 (dk_at dksX10_talkLine_4 5 rfl rfl)
theorem dX10_talkLine_101 : decode cX10_talkLine 101 = .ok (.aload_n 0, 1) := dk_42 (dk_at dksX10_talkLine_4 8 rfl rfl)
theorem dX10_talkLine_102 : decode cX10_talkLine 102 = .ok (.iload_n 2, 1) := dk_28 (dk_at dksX10_talkLine_4 9 rfl rfl)
theorem dX10_talkLine_103 : decode cX10_talkLine 103 = .ok (.putfield 157, 3) := dk_181 0 157 (dk_at dksX10_talkLine_4 10 rfl rfl)
theorem dX10_talkLine_106 : decode cX10_talkLine 106 = .ok (.aload_n 0, 1) := dk_42 (dk_at dksX10_talkLine_4 13 rfl rfl)
theorem dX10_talkLine_107 : decode cX10_talkLine 107 = .ok (.iconst 5, 1) := dk_8 (dk_at dksX10_talkLine_4 14 rfl rfl)
theorem dX10_talkLine_108 : decode cX10_talkLine 108 = .ok (.invokevirtual 190, 3) := dk_182 0 190 (dk_at dksX10_talkLine_4 15 rfl rfl)
theorem dX10_talkLine_111 : decode cX10_talkLine 111 = .ok (.ireturn, 1) := dk_172 (dk_at dksX10_talkLine_4 18 rfl rfl)
theorem dX10_talkLine_112 : decode cX10_talkLine 112 = .ok (.aload_n 0, 1) := dk_42 (dk_at dksX10_talkLine_4 19 rfl rfl)
theorem dX10_talkLine_113 : decode cX10_talkLine 113 = .ok (.aload_n 0, 1) := dk_42 (dk_at dksX10_talkLine_4 20 rfl rfl)
theorem dX10_talkLine_114 : decode cX10_talkLine 114 = .ok (.getfield 45, 3) := dk_180 0 45 (dk_at dksX10_talkLine_4 21 rfl rfl)
theorem dX10_talkLine_117 : decode cX10_talkLine 117 = .ok (.bipush 8, 2) := dk_16 8 (dk_at dksX10_talkLine_5 0 rfl rfl)
theorem dX10_talkLine_119 : decode cX10_talkLine 119 = .ok (.aload_n 0, 1) := dk_42 (dk_at dksX10_talkLine_5 2 rfl rfl)
theorem dX10_talkLine_120 : decode cX10_talkLine 120 = .ok (.getfield 216, 3) := dk_180 0 216 (dk_at dksX10_talkLine_5 3 rfl rfl)
theorem dX10_talkLine_123 : decode cX10_talkLine 123 = .ok (.invokevirtual 257, 3) := dk_182 1 1 (dk_at dksX10_talkLine_5 6 rfl rfl)
theorem dX10_talkLine_126 : decode cX10_talkLine 126 = .ok (.ifCond .ne 5, 3) := dk_154 0 5 (dk_at dksX10_talkLine_5 9 rfl rfl)
theorem dX10_talkLine_129 : decode cX10_talkLine 129 = .ok (.iconst 0, 1) := dk_3 (dk_at dksX10_talkLine_5 12 rfl rfl)
theorem dX10_talkLine_130 : decode cX10_talkLine 130 = .ok (.ireturn, 1) := dk_172 (dk_at dksX10_talkLine_5 13 rfl rfl)
theorem dX10_talkLine_131 : decode cX10_talkLine 131 = .ok (.aload_n 0, 1) := dk_42 (dk_at dksX10_talkLine_5 14 rfl rfl)
theorem dX10_talkLine_132 : decode cX10_talkLine 132 = .ok (.getfield 66, 3) := dk_180 0 66 (dk_at dksX10_talkLine_5 15 rfl rfl)
theorem dX10_talkLine_135 : decode cX10_talkLine 135 = .ok (.iload_n 1, 1) := dk_27 (dk_at dksX10_talkLine_5 18 rfl rfl)
theorem dX10_talkLine_136 : decode cX10_talkLine 136 = .ok (.aload_n 0, 1) := dk_42 (dk_at dksX10_talkLine_5 19 rfl rfl)
theorem dX10_talkLine_137 : decode cX10_talkLine 137 = .ok (.getfield 197, 3) := dk_180 0 197 (dk_at dksX10_talkLine_5 20 rfl rfl)
theorem dX10_talkLine_140 : decode cX10_talkLine 140 = .ok (.iastore, 1) := dk_79 (dk_at dksX10_talkLine_5 23 rfl rfl)
theorem dX10_talkLine_141 : decode cX10_talkLine 141 = .ok (.aload_n 0, 1) := dk_42 (dk_at dksX10_talkLine_6 0 rfl rfl)
theorem dX10_talkLine_142 : decode cX10_talkLine 142 = .ok (.dup, 1) := dk_89 (dk_at dksX10_talkLine_6 1 rfl rfl)
theorem dX10_talkLine_143 : decode cX10_talkLine 143 = .ok (.getfield 219, 3) := dk_180 0 219 (dk_at dksX10_talkLine_6 2 rfl rfl)
theorem dX10_talkLine_146 : decode cX10_talkLine 146 = .ok (.iconst 1, 1) := dk_4 (dk_at dksX10_talkLine_6 5 rfl rfl)
theorem dX10_talkLine_147 : decode cX10_talkLine 147 = .ok (.iadd, 1) := dk_96 (dk_at dksX10_talkLine_6 6 rfl rfl)
theorem dX10_talkLine_148 : decode cX10_talkLine 148 = .ok (.putfield 219, 3) := dk_181 0 219 (dk_at dksX10_talkLine_6 7 rfl rfl)
theorem dX10_talkLine_151 : decode cX10_talkLine 151 = .ok (.iconst 1, 1) := dk_4 (dk_at dksX10_talkLine_6 10 rfl rfl)
theorem dX10_talkLine_152 : decode cX10_talkLine 152 = .ok (.ireturn, 1) := dk_172 (dk_at dksX10_talkLine_6 11 rfl rfl)
def dkwX10_onceLine_2 : List UInt8 := [180, 0, 197, 79, 4, 172]
abbrev dktX10_onceLine_2 : List UInt8 := dkwX10_onceLine_2 ++ []
def dkwX10_onceLine_1 : List UInt8 := [182, 0, 200, 42, 3, 28, 182, 0, 206, 154, 0, 5, 3, 172, 42, 180, 0, 24, 5, 27, 96, 42]
abbrev dktX10_onceLine_1 : List UInt8 := dkwX10_onceLine_1 ++ dktX10_onceLine_2
def dkwX10_onceLine_0 : List UInt8 := [42, 180, 0, 20, 27, 51, 153, 0, 9, 42, 6, 182, 0, 190, 172, 42, 180, 0, 20, 27, 4, 84, 42]
abbrev dktX10_onceLine_0 : List UInt8 := dkwX10_onceLine_0 ++ dktX10_onceLine_1
theorem dksX10_onceLine_0 : cX10_onceLine.data.toList.drop 0 = dktX10_onceLine_0 := by decide +kernel
theorem dksX10_onceLine_1 : cX10_onceLine.data.toList.drop 23 = dktX10_onceLine_1 := dk_seg dksX10_onceLine_0 23 rfl rfl
theorem dksX10_onceLine_2 : cX10_onceLine.data.toList.drop 45 = dktX10_onceLine_2 := dk_seg dksX10_onceLine_1 22 rfl rfl
theorem dX10_onceLine_0 : decode cX10_onceLine 0 = .ok (.aload_n 0, 1) := dk_42 (dk_at dksX10_onceLine_0 0 rfl rfl)
theorem dX10_onceLine_1 : decode cX10_onceLine 1 = .ok (.getfield 20, 3) := dk_180 0 20 (dk_at dksX10_onceLine_0 1 rfl rfl)
theorem dX10_onceLine_4 : decode cX10_onceLine 4 = .ok (.iload_n 1, 1) := dk_27 (dk_at dksX10_onceLine_0 4 rfl rfl)
theorem dX10_onceLine_5 : decode cX10_onceLine 5 = .ok (.baload, 1) := dk_51 (dk_at dksX10_onceLine_0 5 rfl rfl)
theorem dX10_onceLine_6 : decode cX10_onceLine 6 = .ok (.ifCond .eq 9, 3) := dk_153 0 9 (dk_at dksX10_onceLine_0 6 rfl rfl)
theorem dX10_onceLine_9 : decode cX10_onceLine 9 = .ok (.aload_n 0, 1) := dk_42 (dk_at dksX10_onceLine_0 9 rfl rfl)
theorem dX10_onceLine_10 : decode cX10_onceLine 10 = .ok (.iconst 3, 1) := dk_6 (dk_at dksX10_onceLine_0 10 rfl rfl)
theorem dX10_onceLine_11 : decode cX10_onceLine 11 = .ok (.invokevirtual 190, 3) := dk_182 0 190 (dk_at dksX10_onceLine_0 11 rfl rfl)
theorem dX10_onceLine_14 : decode cX10_onceLine 14 = .ok (.ireturn, 1) := dk_172 (dk_at dksX10_onceLine_0 14 rfl rfl)
theorem dX10_onceLine_15 : decode cX10_onceLine 15 = .ok (.aload_n 0, 1) := dk_42 (dk_at dksX10_onceLine_0 15 rfl rfl)
theorem dX10_onceLine_16 : decode cX10_onceLine 16 = .ok (.getfield 20, 3) := dk_180 0 20 (dk_at dksX10_onceLine_0 16 rfl rfl)
theorem dX10_onceLine_19 : decode cX10_onceLine 19 = .ok (.iload_n 1, 1) := dk_27 (dk_at dksX10_onceLine_0 19 rfl rfl)
theorem dX10_onceLine_20 : decode cX10_onceLine 20 = .ok (.iconst 1, 1) := dk_4 (dk_at dksX10_onceLine_0 20 rfl rfl)
theorem dX10_onceLine_21 : decode cX10_onceLine 21 = .ok (.bastore, 1) := dk_84 (dk_at dksX10_onceLine_0 21 rfl rfl)
theorem dX10_onceLine_22 : decode cX10_onceLine 22 = .ok (.aload_n 0, 1) := dk_42 (dk_at dksX10_onceLine_0 22 rfl rfl)
theorem dX10_onceLine_23 : decode cX10_onceLine 23 = .ok (.invokevirtual 200, 3) := dk_182 0 200 (dk_at dksX10_onceLine_1 0 rfl rfl)
theorem dX10_onceLine_26 : decode cX10_onceLine 26 = .ok (.aload_n 0, 1) := dk_42 (dk_at dksX10_onceLine_1 3 rfl rfl)
theorem dX10_onceLine_27 : decode cX10_onceLine 27 = .ok (.iconst 0, 1) := dk_3 (dk_at dksX10_onceLine_1 4 rfl rfl)
theorem dX10_onceLine_28 : decode cX10_onceLine 28 = .ok (.iload_n 2, 1) := dk_28 (dk_at dksX10_onceLine_1 5 rfl rfl)
theorem dX10_onceLine_29 : decode cX10_onceLine 29 = .ok (.invokevirtual 206, 3) := dk_182 0 206 (dk_at dksX10_onceLine_1 6 rfl rfl)
theorem dX10_onceLine_32 : decode cX10_onceLine 32 = .ok (.ifCond .ne 5, 3) := dk_154 0 5 (dk_at dksX10_onceLine_1 9 rfl rfl)
theorem dX10_onceLine_35 : decode cX10_onceLine 35 = .ok (.iconst 0, 1) := dk_3 (dk_at dksX10_onceLine_1 12 rfl rfl)
theorem dX10_onceLine_36 : decode cX10_onceLine 36 = .ok (.ireturn, 1) := dk_172 (dk_at dksX10_onceLine_1 13 rfl rfl)
theorem dX10_onceLine_37 : decode cX10_onceLine 37 = .ok (.aload_n 0, 1) := dk_42 (dk_at dksX10_onceLine_1 14 rfl rfl)
theorem dX10_onceLine_38 : decode cX10_onceLine 38 = .ok (.getfield 24, 3) := dk_180 0 24 (dk_at dksX10_onceLine_1 15 rfl rfl)
theorem dX10_onceLine_41 : decode cX10_onceLine 41 = .ok (.iconst 2, 1) := dk_5 (dk_at dksX10_onceLine_1 18 rfl rfl)
theorem dX10_onceLine_42 : decode cX10_onceLine 42 = .ok (.iload_n 1, 1) := dk_27 (dk_at dksX10_onceLine_1 19 rfl rfl)
theorem dX10_onceLine_43 : decode cX10_onceLine 43 = .ok (.iadd, 1) := dk_96 (dk_at dksX10_onceLine_1 20 rfl rfl)
theorem dX10_onceLine_44 : decode cX10_onceLine 44 = .ok (.aload_n 0, 1) := dk_42 (dk_at dksX10_onceLine_1 21 rfl rfl)
theorem dX10_onceLine_45 : decode cX10_onceLine 45 = .ok (.getfield 197, 3) := dk_180 0 197 (dk_at dksX10_onceLine_2 0 rfl rfl)
theorem dX10_onceLine_48 : decode cX10_onceLine 48 = .ok (.iastore, 1) := dk_79 (dk_at dksX10_onceLine_2 3 rfl rfl)
theorem dX10_onceLine_49 : decode cX10_onceLine 49 = .ok (.iconst 1, 1) := dk_4 (dk_at dksX10_onceLine_2 4 rfl rfl)
theorem dX10_onceLine_50 : decode cX10_onceLine 50 = .ok (.ireturn, 1) := dk_172 (dk_at dksX10_onceLine_2 5 rfl rfl)
def dkwX10_sumRead_3 : List UInt8 := [154, 255, 212, 3, 172, 42, 4, 182, 1, 77, 4, 172]
abbrev dktX10_sumRead_3 : List UInt8 := dkwX10_sumRead_3 ++ []
def dkwX10_sumRead_2 : List UInt8 := [158, 0, 29, 42, 180, 1, 74, 153, 0, 13, 42, 182, 1, 80, 153, 0, 13, 167, 255, 219, 42, 182, 1, 83]
abbrev dktX10_sumRead_2 : List UInt8 := dkwX10_sumRead_2 ++ dktX10_sumRead_3
def dkwX10_sumRead_1 : List UInt8 := [181, 1, 64, 42, 16, 59, 182, 0, 203, 153, 0, 17, 42, 180, 1, 74, 154, 0, 10, 42, 180, 1, 57]
abbrev dktX10_sumRead_1 : List UInt8 := dkwX10_sumRead_1 ++ dktX10_sumRead_2
def dkwX10_sumRead_0 : List UInt8 := [42, 3, 181, 1, 42, 42, 3, 181, 1, 39, 42, 3, 181, 1, 57, 42, 4, 181, 1, 74, 42, 4]
abbrev dktX10_sumRead_0 : List UInt8 := dkwX10_sumRead_0 ++ dktX10_sumRead_1
theorem dksX10_sumRead_0 : cX10_sumRead.data.toList.drop 0 = dktX10_sumRead_0 := by decide +kernel
theorem dksX10_sumRead_1 : cX10_sumRead.data.toList.drop 22 = dktX10_sumRead_1 := dk_seg dksX10_sumRead_0 22 rfl rfl
theorem dksX10_sumRead_2 : cX10_sumRead.data.toList.drop 45 = dktX10_sumRead_2 := dk_seg dksX10_sumRead_1 23 rfl rfl
theorem dksX10_sumRead_3 : cX10_sumRead.data.toList.drop 69 = dktX10_sumRead_3 := dk_seg dksX10_sumRead_2 24 rfl rfl
theorem dX10_sumRead_0 : decode cX10_sumRead 0 = .ok (.aload_n 0, 1) := dk_42 (dk_at dksX10_sumRead_0 0 rfl rfl)
theorem dX10_sumRead_1 : decode cX10_sumRead 1 = .ok (.iconst 0, 1) := dk_3 (dk_at dksX10_sumRead_0 1 rfl rfl)
theorem dX10_sumRead_2 : decode cX10_sumRead 2 = .ok (.putfield 298, 3) := dk_181 1 42 (dk_at dksX10_sumRead_0 2 rfl rfl)
theorem dX10_sumRead_5 : decode cX10_sumRead 5 = .ok (.aload_n 0, 1) := dk_42 (dk_at dksX10_sumRead_0 5 rfl rfl)
theorem dX10_sumRead_6 : decode cX10_sumRead 6 = .ok (.iconst 0, 1) := dk_3 (dk_at dksX10_sumRead_0 6 rfl rfl)
theorem dX10_sumRead_7 : decode cX10_sumRead 7 = .ok (.putfield 295, 3) := dk_181 1 39 (dk_at dksX10_sumRead_0 7 rfl rfl)
theorem dX10_sumRead_10 : decode cX10_sumRead 10 = .ok (.aload_n 0, 1) := dk_42 (dk_at dksX10_sumRead_0 10 rfl rfl)
theorem dX10_sumRead_11 : decode cX10_sumRead 11 = .ok (.iconst 0, 1) := dk_3 (dk_at dksX10_sumRead_0 11 rfl rfl)
theorem dX10_sumRead_12 : decode cX10_sumRead 12 = .ok (.putfield 313, 3) := dk_181 1 57 (dk_at dksX10_sumRead_0 12 rfl rfl)
theorem dX10_sumRead_15 : decode cX10_sumRead 15 = .ok (.aload_n 0, 1) := dk_42 (dk_at dksX10_sumRead_0 15 rfl rfl)
theorem dX10_sumRead_16 : decode cX10_sumRead 16 = .ok (.iconst 1, 1) := dk_4 (dk_at dksX10_sumRead_0 16 rfl rfl)
theorem dX10_sumRead_17 : decode cX10_sumRead 17 = .ok (.putfield 330, 3) := dk_181 1 74 (dk_at dksX10_sumRead_0 17 rfl rfl)
theorem dX10_sumRead_20 : decode cX10_sumRead 20 = .ok (.aload_n 0, 1) := dk_42 (dk_at dksX10_sumRead_0 20 rfl rfl)
theorem dX10_sumRead_21 : decode cX10_sumRead 21 = .ok (.iconst 1, 1) := dk_4 (dk_at dksX10_sumRead_0 21 rfl rfl)
theorem dX10_sumRead_22 : decode cX10_sumRead 22 = .ok (.putfield 320, 3) := dk_181 1 64 (dk_at dksX10_sumRead_1 0 rfl rfl)
theorem dX10_sumRead_25 : decode cX10_sumRead 25 = .ok (.aload_n 0, 1) := dk_42 (dk_at dksX10_sumRead_1 3 rfl rfl)
theorem dX10_sumRead_26 : decode cX10_sumRead 26 = .ok (.bipush 59, 2) := dk_16 59 (dk_at dksX10_sumRead_1 4 rfl rfl)
theorem dX10_sumRead_28 : decode cX10_sumRead 28 = .ok (.invokevirtual 203, 3) := dk_182 0 203 (dk_at dksX10_sumRead_1 6 rfl rfl)
theorem dX10_sumRead_31 : decode cX10_sumRead 31 = .ok (.ifCond .eq 17, 3) := dk_153 0 17 (dk_at dksX10_sumRead_1 9 rfl rfl)
theorem dX10_sumRead_34 : decode cX10_sumRead 34 = .ok (.aload_n 0, 1) := dk_42 (dk_at dksX10_sumRead_1 12 rfl rfl)
theorem dX10_sumRead_35 : decode cX10_sumRead 35 = .ok (.getfield 330, 3) := dk_180 1 74 (dk_at dksX10_sumRead_1 13 rfl rfl)
theorem dX10_sumRead_38 : decode cX10_sumRead 38 = .ok (.ifCond .ne 10, 3) := dk_154 0 10 (dk_at dksX10_sumRead_1 16 rfl rfl)
theorem dX10_sumRead_41 : decode cX10_sumRead 41 = .ok (.aload_n 0, 1) := dk_42 (dk_at dksX10_sumRead_1 19 rfl rfl)
theorem dX10_sumRead_42 : decode cX10_sumRead 42 = .ok (.getfield 313, 3) := dk_180 1 57 (dk_at dksX10_sumRead_1 20 rfl rfl)
theorem dX10_sumRead_45 : decode cX10_sumRead 45 = .ok (.ifCond .le 29, 3) := dk_158 0 29 (dk_at dksX10_sumRead_2 0 rfl rfl)
theorem dX10_sumRead_48 : decode cX10_sumRead 48 = .ok (.aload_n 0, 1) := dk_42 (dk_at dksX10_sumRead_2 3 rfl rfl)
theorem dX10_sumRead_49 : decode cX10_sumRead 49 = .ok (.getfield 330, 3) := dk_180 1 74 (dk_at dksX10_sumRead_2 4 rfl rfl)
theorem dX10_sumRead_52 : decode cX10_sumRead 52 = .ok (.ifCond .eq 13, 3) := dk_153 0 13 (dk_at dksX10_sumRead_2 7 rfl rfl)
theorem dX10_sumRead_55 : decode cX10_sumRead 55 = .ok (.aload_n 0, 1) := dk_42 (dk_at dksX10_sumRead_2 10 rfl rfl)
theorem dX10_sumRead_56 : decode cX10_sumRead 56 = .ok (.invokevirtual 336, 3) := dk_182 1 80 (dk_at dksX10_sumRead_2 11 rfl rfl)
theorem dX10_sumRead_59 : decode cX10_sumRead 59 = .ok (.ifCond .eq 13, 3) := dk_153 0 13 (dk_at dksX10_sumRead_2 14 rfl rfl)
theorem dX10_sumRead_62 : decode cX10_sumRead 62 = .ok (.goto (-37), 3) := dk_167 255 219 (dk_at dksX10_sumRead_2 17 rfl rfl)
theorem dX10_sumRead_65 : decode cX10_sumRead 65 = .ok (.aload_n 0, 1) := dk_42 (dk_at dksX10_sumRead_2 20 rfl rfl)
theorem dX10_sumRead_66 : decode cX10_sumRead 66 = .ok (.invokevirtual 339, 3) := dk_182 1 83 (dk_at dksX10_sumRead_2 21 rfl rfl)
theorem dX10_sumRead_69 : decode cX10_sumRead 69 = .ok (.ifCond .ne (-44), 3) := dk_154 255 212 (dk_at dksX10_sumRead_3 0 rfl rfl)
theorem dX10_sumRead_72 : decode cX10_sumRead 72 = .ok (.iconst 0, 1) := dk_3 (dk_at dksX10_sumRead_3 3 rfl rfl)
theorem dX10_sumRead_73 : decode cX10_sumRead 73 = .ok (.ireturn, 1) := dk_172 (dk_at dksX10_sumRead_3 4 rfl rfl)
theorem dX10_sumRead_74 : decode cX10_sumRead 74 = .ok (.aload_n 0, 1) := dk_42 (dk_at dksX10_sumRead_3 5 rfl rfl)
theorem dX10_sumRead_75 : decode cX10_sumRead 75 = .ok (.iconst 1, 1) := dk_4 (dk_at dksX10_sumRead_3 6 rfl rfl)
theorem dX10_sumRead_76 : decode cX10_sumRead 76 = .ok (.invokevirtual 333, 3) := dk_182 1 77 (dk_at dksX10_sumRead_3 7 rfl rfl)
theorem dX10_sumRead_79 : decode cX10_sumRead 79 = .ok (.iconst 1, 1) := dk_4 (dk_at dksX10_sumRead_3 10 rfl rfl)
theorem dX10_sumRead_80 : decode cX10_sumRead 80 = .ok (.ireturn, 1) := dk_172 (dk_at dksX10_sumRead_3 11 rfl rfl)
def dkwX10_isSign_0 : List UInt8 := [42, 180, 0, 166, 7, 160, 0, 15, 42, 180, 0, 177, 27, 160, 0, 7, 4, 167, 0, 4, 3, 172]
abbrev dktX10_isSign_0 : List UInt8 := dkwX10_isSign_0 ++ []
theorem dksX10_isSign_0 : cX10_isSign.data.toList.drop 0 = dktX10_isSign_0 := by decide +kernel
theorem dX10_isSign_0 : decode cX10_isSign 0 = .ok (.aload_n 0, 1) := dk_42 (dk_at dksX10_isSign_0 0 rfl rfl)
theorem dX10_isSign_1 : decode cX10_isSign 1 = .ok (.getfield 166, 3) := dk_180 0 166 (dk_at dksX10_isSign_0 1 rfl rfl)
theorem dX10_isSign_4 : decode cX10_isSign 4 = .ok (.iconst 4, 1) := dk_7 (dk_at dksX10_isSign_0 4 rfl rfl)
theorem dX10_isSign_5 : decode cX10_isSign 5 = .ok (.if_icmp .ne 15, 3) := dk_160 0 15 (dk_at dksX10_isSign_0 5 rfl rfl)
theorem dX10_isSign_8 : decode cX10_isSign 8 = .ok (.aload_n 0, 1) := dk_42 (dk_at dksX10_isSign_0 8 rfl rfl)
theorem dX10_isSign_9 : decode cX10_isSign 9 = .ok (.getfield 177, 3) := dk_180 0 177 (dk_at dksX10_isSign_0 9 rfl rfl)
theorem dX10_isSign_12 : decode cX10_isSign 12 = .ok (.iload_n 1, 1) := dk_27 (dk_at dksX10_isSign_0 12 rfl rfl)
theorem dX10_isSign_13 : decode cX10_isSign 13 = .ok (.if_icmp .ne 7, 3) := dk_160 0 7 (dk_at dksX10_isSign_0 13 rfl rfl)
theorem dX10_isSign_16 : decode cX10_isSign 16 = .ok (.iconst 1, 1) := dk_4 (dk_at dksX10_isSign_0 16 rfl rfl)
theorem dX10_isSign_17 : decode cX10_isSign 17 = .ok (.goto 4, 3) := dk_167 0 4 (dk_at dksX10_isSign_0 17 rfl rfl)
theorem dX10_isSign_20 : decode cX10_isSign 20 = .ok (.iconst 0, 1) := dk_3 (dk_at dksX10_isSign_0 20 rfl rfl)
theorem dX10_isSign_21 : decode cX10_isSign 21 = .ok (.ireturn, 1) := dk_172 (dk_at dksX10_isSign_0 21 rfl rfl)
def dkwX10_leafRead_7 : List UInt8 := [182, 1, 53, 42, 3, 181, 1, 74, 42, 182, 0, 200, 4, 172]
abbrev dktX10_leafRead_7 : List UInt8 := dkwX10_leafRead_7 ++ []
def dkwX10_leafRead_6 : List UInt8 := [42, 27, 155, 0, 7, 4, 167, 0, 4, 3, 27, 155, 0, 7, 27, 167, 0, 7, 42, 180, 0, 177, 3]
abbrev dktX10_leafRead_6 : List UInt8 := dkwX10_leafRead_6 ++ dktX10_leafRead_7
def dkwX10_leafRead_5 : List UInt8 := [180, 0, 177, 17, 39, 15, 164, 0, 9, 42, 5, 182, 0, 190, 172, 42, 182, 1, 68, 154, 0, 5, 3, 172]
abbrev dktX10_leafRead_5 : List UInt8 := dkwX10_leafRead_5 ++ dktX10_leafRead_6
def dkwX10_leafRead_4 : List UInt8 := [156, 0, 17, 42, 180, 0, 166, 6, 159, 0, 9, 42, 4, 182, 0, 190, 172, 27, 156, 0, 19, 42]
abbrev dktX10_leafRead_4 : List UInt8 := dkwX10_leafRead_4 ++ dktX10_leafRead_5
def dkwX10_leafRead_3 : List UInt8 := [154, 0, 5, 3, 172, 42, 5, 182, 1, 60, 42, 182, 0, 200, 4, 172, 42, 182, 1, 71, 60, 27]
abbrev dktX10_leafRead_3 : List UInt8 := dkwX10_leafRead_3 ++ dktX10_leafRead_4
def dkwX10_leafRead_2 : List UInt8 := [4, 172, 42, 16, 17, 182, 0, 254, 153, 0, 30, 42, 180, 1, 64, 153, 0, 23, 42, 182, 1, 68]
abbrev dktX10_leafRead_2 : List UInt8 := dkwX10_leafRead_2 ++ dktX10_leafRead_3
def dkwX10_leafRead_1 : List UInt8 := [42, 89, 180, 1, 57, 4, 96, 181, 1, 57, 42, 3, 182, 1, 60, 42, 4, 181, 1, 64, 42, 182, 0, 200]
abbrev dktX10_leafRead_1 : List UInt8 := dkwX10_leafRead_1 ++ dktX10_leafRead_2
def dkwX10_leafRead_0 : List UInt8 := [42, 16, 40, 182, 0, 203, 153, 0, 44, 42, 180, 1, 57, 16, 8, 160, 0, 9, 42, 5, 182, 0, 190, 172]
abbrev dktX10_leafRead_0 : List UInt8 := dkwX10_leafRead_0 ++ dktX10_leafRead_1
theorem dksX10_leafRead_0 : cX10_leafRead.data.toList.drop 0 = dktX10_leafRead_0 := by decide +kernel
theorem dksX10_leafRead_1 : cX10_leafRead.data.toList.drop 24 = dktX10_leafRead_1 := dk_seg dksX10_leafRead_0 24 rfl rfl
theorem dksX10_leafRead_2 : cX10_leafRead.data.toList.drop 48 = dktX10_leafRead_2 := dk_seg dksX10_leafRead_1 24 rfl rfl
theorem dksX10_leafRead_3 : cX10_leafRead.data.toList.drop 70 = dktX10_leafRead_3 := dk_seg dksX10_leafRead_2 22 rfl rfl
theorem dksX10_leafRead_4 : cX10_leafRead.data.toList.drop 92 = dktX10_leafRead_4 := dk_seg dksX10_leafRead_3 22 rfl rfl
theorem dksX10_leafRead_5 : cX10_leafRead.data.toList.drop 114 = dktX10_leafRead_5 := dk_seg dksX10_leafRead_4 22 rfl rfl
theorem dksX10_leafRead_6 : cX10_leafRead.data.toList.drop 138 = dktX10_leafRead_6 := dk_seg dksX10_leafRead_5 24 rfl rfl
theorem dksX10_leafRead_7 : cX10_leafRead.data.toList.drop 161 = dktX10_leafRead_7 := dk_seg dksX10_leafRead_6 23 rfl rfl
theorem dX10_leafRead_0 : decode cX10_leafRead 0 = .ok (.aload_n 0, 1) := dk_42 (dk_at dksX10_leafRead_0 0 rfl rfl)
theorem dX10_leafRead_1 : decode cX10_leafRead 1 = .ok (.bipush 40, 2) := dk_16 40 (dk_at dksX10_leafRead_0 1 rfl rfl)
theorem dX10_leafRead_3 : decode cX10_leafRead 3 = .ok (.invokevirtual 203, 3) := dk_182 0 203 (dk_at dksX10_leafRead_0 3 rfl rfl)
theorem dX10_leafRead_6 : decode cX10_leafRead 6 = .ok (.ifCond .eq 44, 3) := dk_153 0 44 (dk_at dksX10_leafRead_0 6 rfl rfl)
theorem dX10_leafRead_9 : decode cX10_leafRead 9 = .ok (.aload_n 0, 1) := dk_42 (dk_at dksX10_leafRead_0 9 rfl rfl)
theorem dX10_leafRead_10 : decode cX10_leafRead 10 = .ok (.getfield 313, 3) := dk_180 1 57 (dk_at dksX10_leafRead_0 10 rfl rfl)
theorem dX10_leafRead_13 : decode cX10_leafRead 13 = .ok (.bipush 8, 2) := dk_16 8 (dk_at dksX10_leafRead_0 13 rfl rfl)
theorem dX10_leafRead_15 : decode cX10_leafRead 15 = .ok (.if_icmp .ne 9, 3) := dk_160 0 9 (dk_at dksX10_leafRead_0 15 rfl rfl)
theorem dX10_leafRead_18 : decode cX10_leafRead 18 = .ok (.aload_n 0, 1) := dk_42 (dk_at dksX10_leafRead_0 18 rfl rfl)
theorem dX10_leafRead_19 : decode cX10_leafRead 19 = .ok (.iconst 2, 1) := dk_5 (dk_at dksX10_leafRead_0 19 rfl rfl)
theorem dX10_leafRead_20 : decode cX10_leafRead 20 = .ok (.invokevirtual 190, 3) := dk_182 0 190 (dk_at dksX10_leafRead_0 20 rfl rfl)
theorem dX10_leafRead_23 : decode cX10_leafRead 23 = .ok (.ireturn, 1) := dk_172 (dk_at dksX10_leafRead_0 23 rfl rfl)
theorem dX10_leafRead_24 : decode cX10_leafRead 24 = .ok (.aload_n 0, 1) := dk_42 (dk_at dksX10_leafRead_1 0 rfl rfl)
theorem dX10_leafRead_25 : decode cX10_leafRead 25 = .ok (.dup, 1) := dk_89 (dk_at dksX10_leafRead_1 1 rfl rfl)
theorem dX10_leafRead_26 : decode cX10_leafRead 26 = .ok (.getfield 313, 3) := dk_180 1 57 (dk_at dksX10_leafRead_1 2 rfl rfl)
theorem dX10_leafRead_29 : decode cX10_leafRead 29 = .ok (.iconst 1, 1) := dk_4 (dk_at dksX10_leafRead_1 5 rfl rfl)
theorem dX10_leafRead_30 : decode cX10_leafRead 30 = .ok (.iadd, 1) := dk_96 (dk_at dksX10_leafRead_1 6 rfl rfl)
theorem dX10_leafRead_31 : decode cX10_leafRead 31 = .ok (.putfield 313, 3) := dk_181 1 57 (dk_at dksX10_leafRead_1 7 rfl rfl)
theorem dX10_leafRead_34 : decode cX10_leafRead 34 = .ok (.aload_n 0, 1) := dk_42 (dk_at dksX10_leafRead_1 10 rfl rfl)
theorem dX10_leafRead_35 : decode cX10_leafRead 35 = .ok (.iconst 0, 1) := dk_3 (dk_at dksX10_leafRead_1 11 rfl rfl)
theorem dX10_leafRead_36 : decode cX10_leafRead 36 = .ok (.invokevirtual 316, 3) := dk_182 1 60 (dk_at dksX10_leafRead_1 12 rfl rfl)
theorem dX10_leafRead_39 : decode cX10_leafRead 39 = .ok (.aload_n 0, 1) := dk_42 (dk_at dksX10_leafRead_1 15 rfl rfl)
theorem dX10_leafRead_40 : decode cX10_leafRead 40 = .ok (.iconst 1, 1) := dk_4 (dk_at dksX10_leafRead_1 16 rfl rfl)
theorem dX10_leafRead_41 : decode cX10_leafRead 41 = .ok (.putfield 320, 3) := dk_181 1 64 (dk_at dksX10_leafRead_1 17 rfl rfl)
theorem dX10_leafRead_44 : decode cX10_leafRead 44 = .ok (.aload_n 0, 1) := dk_42 (dk_at dksX10_leafRead_1 20 rfl rfl)
theorem dX10_leafRead_45 : decode cX10_leafRead 45 = .ok (.invokevirtual 200, 3) := dk_182 0 200 (dk_at dksX10_leafRead_1 21 rfl rfl)
theorem dX10_leafRead_48 : decode cX10_leafRead 48 = .ok (.iconst 1, 1) := dk_4 (dk_at dksX10_leafRead_2 0 rfl rfl)
theorem dX10_leafRead_49 : decode cX10_leafRead 49 = .ok (.ireturn, 1) := dk_172 (dk_at dksX10_leafRead_2 1 rfl rfl)
theorem dX10_leafRead_50 : decode cX10_leafRead 50 = .ok (.aload_n 0, 1) := dk_42 (dk_at dksX10_leafRead_2 2 rfl rfl)
theorem dX10_leafRead_51 : decode cX10_leafRead 51 = .ok (.bipush 17, 2) := dk_16 17 (dk_at dksX10_leafRead_2 3 rfl rfl)
theorem dX10_leafRead_53 : decode cX10_leafRead 53 = .ok (.invokevirtual 254, 3) := dk_182 0 254 (dk_at dksX10_leafRead_2 5 rfl rfl)
theorem dX10_leafRead_56 : decode cX10_leafRead 56 = .ok (.ifCond .eq 30, 3) := dk_153 0 30 (dk_at dksX10_leafRead_2 8 rfl rfl)
theorem dX10_leafRead_59 : decode cX10_leafRead 59 = .ok (.aload_n 0, 1) := dk_42 (dk_at dksX10_leafRead_2 11 rfl rfl)
theorem dX10_leafRead_60 : decode cX10_leafRead 60 = .ok (.getfield 320, 3) := dk_180 1 64 (dk_at dksX10_leafRead_2 12 rfl rfl)
theorem dX10_leafRead_63 : decode cX10_leafRead 63 = .ok (.ifCond .eq 23, 3) := dk_153 0 23 (dk_at dksX10_leafRead_2 15 rfl rfl)
theorem dX10_leafRead_66 : decode cX10_leafRead 66 = .ok (.aload_n 0, 1) := dk_42 (dk_at dksX10_leafRead_2 18 rfl rfl)
theorem dX10_leafRead_67 : decode cX10_leafRead 67 = .ok (.invokevirtual 324, 3) := dk_182 1 68 (dk_at dksX10_leafRead_2 19 rfl rfl)
theorem dX10_leafRead_70 : decode cX10_leafRead 70 = .ok (.ifCond .ne 5, 3) := dk_154 0 5 (dk_at dksX10_leafRead_3 0 rfl rfl)
theorem dX10_leafRead_73 : decode cX10_leafRead 73 = .ok (.iconst 0, 1) := dk_3 (dk_at dksX10_leafRead_3 3 rfl rfl)
theorem dX10_leafRead_74 : decode cX10_leafRead 74 = .ok (.ireturn, 1) := dk_172 (dk_at dksX10_leafRead_3 4 rfl rfl)
theorem dX10_leafRead_75 : decode cX10_leafRead 75 = .ok (.aload_n 0, 1) := dk_42 (dk_at dksX10_leafRead_3 5 rfl rfl)
theorem dX10_leafRead_76 : decode cX10_leafRead 76 = .ok (.iconst 2, 1) := dk_5 (dk_at dksX10_leafRead_3 6 rfl rfl)
theorem dX10_leafRead_77 : decode cX10_leafRead 77 = .ok (.invokevirtual 316, 3) := dk_182 1 60 (dk_at dksX10_leafRead_3 7 rfl rfl)
theorem dX10_leafRead_80 : decode cX10_leafRead 80 = .ok (.aload_n 0, 1) := dk_42 (dk_at dksX10_leafRead_3 10 rfl rfl)
theorem dX10_leafRead_81 : decode cX10_leafRead 81 = .ok (.invokevirtual 200, 3) := dk_182 0 200 (dk_at dksX10_leafRead_3 11 rfl rfl)
theorem dX10_leafRead_84 : decode cX10_leafRead 84 = .ok (.iconst 1, 1) := dk_4 (dk_at dksX10_leafRead_3 14 rfl rfl)
theorem dX10_leafRead_85 : decode cX10_leafRead 85 = .ok (.ireturn, 1) := dk_172 (dk_at dksX10_leafRead_3 15 rfl rfl)
theorem dX10_leafRead_86 : decode cX10_leafRead 86 = .ok (.aload_n 0, 1) := dk_42 (dk_at dksX10_leafRead_3 16 rfl rfl)
theorem dX10_leafRead_87 : decode cX10_leafRead 87 = .ok (.invokevirtual 327, 3) := dk_182 1 71 (dk_at dksX10_leafRead_3 17 rfl rfl)
theorem dX10_leafRead_90 : decode cX10_leafRead 90 = .ok (.istore_n 1, 1) := dk_60 (dk_at dksX10_leafRead_3 20 rfl rfl)
theorem dX10_leafRead_91 : decode cX10_leafRead 91 = .ok (.iload_n 1, 1) := dk_27 (dk_at dksX10_leafRead_3 21 rfl rfl)
theorem dX10_leafRead_92 : decode cX10_leafRead 92 = .ok (.ifCond .ge 17, 3) := dk_156 0 17 (dk_at dksX10_leafRead_4 0 rfl rfl)
theorem dX10_leafRead_95 : decode cX10_leafRead 95 = .ok (.aload_n 0, 1) := dk_42 (dk_at dksX10_leafRead_4 3 rfl rfl)
theorem dX10_leafRead_96 : decode cX10_leafRead 96 = .ok (.getfield 166, 3) := dk_180 0 166 (dk_at dksX10_leafRead_4 4 rfl rfl)
theorem dX10_leafRead_99 : decode cX10_leafRead 99 = .ok (.iconst 3, 1) := dk_6 (dk_at dksX10_leafRead_4 7 rfl rfl)
theorem dX10_leafRead_100 : decode cX10_leafRead 100 = .ok (.if_icmp .eq 9, 3) := dk_159 0 9 (dk_at dksX10_leafRead_4 8 rfl rfl)
theorem dX10_leafRead_103 : decode cX10_leafRead 103 = .ok (.aload_n 0, 1) := dk_42 (dk_at dksX10_leafRead_4 11 rfl rfl)
theorem dX10_leafRead_104 : decode cX10_leafRead 104 = .ok (.iconst 1, 1) := dk_4 (dk_at dksX10_leafRead_4 12 rfl rfl)
theorem dX10_leafRead_105 : decode cX10_leafRead 105 = .ok (.invokevirtual 190, 3) := dk_182 0 190 (dk_at dksX10_leafRead_4 13 rfl rfl)
theorem dX10_leafRead_108 : decode cX10_leafRead 108 = .ok (.ireturn, 1) := dk_172 (dk_at dksX10_leafRead_4 16 rfl rfl)
theorem dX10_leafRead_109 : decode cX10_leafRead 109 = .ok (.iload_n 1, 1) := dk_27 (dk_at dksX10_leafRead_4 17 rfl rfl)
theorem dX10_leafRead_110 : decode cX10_leafRead 110 = .ok (.ifCond .ge 19, 3) := dk_156 0 19 (dk_at dksX10_leafRead_4 18 rfl rfl)
theorem dX10_leafRead_113 : decode cX10_leafRead 113 = .ok (.aload_n 0, 1) := dk_42 (dk_at dksX10_leafRead_4 21 rfl rfl)
theorem dX10_leafRead_114 : decode cX10_leafRead 114 = .ok (.getfield 177, 3) := dk_180 0 177 (dk_at dksX10_leafRead_5 0 rfl rfl)
theorem dX10_leafRead_117 : decode cX10_leafRead 117 = .ok (.sipush 9999, 3) := dk_17 39 15 (dk_at dksX10_leafRead_5 3 rfl rfl)
theorem dX10_leafRead_120 : decode cX10_leafRead 120 = .ok (.if_icmp .le 9, 3) := dk_164 0 9 (dk_at dksX10_leafRead_5 6 rfl rfl)
theorem dX10_leafRead_123 : decode cX10_leafRead 123 = .ok (.aload_n 0, 1) := dk_42 (dk_at dksX10_leafRead_5 9 rfl rfl)
theorem dX10_leafRead_124 : decode cX10_leafRead 124 = .ok (.iconst 2, 1) := dk_5 (dk_at dksX10_leafRead_5 10 rfl rfl)
theorem dX10_leafRead_125 : decode cX10_leafRead 125 = .ok (.invokevirtual 190, 3) := dk_182 0 190 (dk_at dksX10_leafRead_5 11 rfl rfl)
theorem dX10_leafRead_128 : decode cX10_leafRead 128 = .ok (.ireturn, 1) := dk_172 (dk_at dksX10_leafRead_5 14 rfl rfl)
theorem dX10_leafRead_129 : decode cX10_leafRead 129 = .ok (.aload_n 0, 1) := dk_42 (dk_at dksX10_leafRead_5 15 rfl rfl)
theorem dX10_leafRead_130 : decode cX10_leafRead 130 = .ok (.invokevirtual 324, 3) := dk_182 1 68 (dk_at dksX10_leafRead_5 16 rfl rfl)
theorem dX10_leafRead_133 : decode cX10_leafRead 133 = .ok (.ifCond .ne 5, 3) := dk_154 0 5 (dk_at dksX10_leafRead_5 19 rfl rfl)
theorem dX10_leafRead_136 : decode cX10_leafRead 136 = .ok (.iconst 0, 1) := dk_3 (dk_at dksX10_leafRead_5 22 rfl rfl)
theorem dX10_leafRead_137 : decode cX10_leafRead 137 = .ok (.ireturn, 1) := dk_172 (dk_at dksX10_leafRead_5 23 rfl rfl)
theorem dX10_leafRead_138 : decode cX10_leafRead 138 = .ok (.aload_n 0, 1) := dk_42 (dk_at dksX10_leafRead_6 0 rfl rfl)
theorem dX10_leafRead_139 : decode cX10_leafRead 139 = .ok (.iload_n 1, 1) := dk_27 (dk_at dksX10_leafRead_6 1 rfl rfl)
theorem dX10_leafRead_140 : decode cX10_leafRead 140 = .ok (.ifCond .lt 7, 3) := dk_155 0 7 (dk_at dksX10_leafRead_6 2 rfl rfl)
theorem dX10_leafRead_143 : decode cX10_leafRead 143 = .ok (.iconst 1, 1) := dk_4 (dk_at dksX10_leafRead_6 5 rfl rfl)
theorem dX10_leafRead_144 : decode cX10_leafRead 144 = .ok (.goto 4, 3) := dk_167 0 4 (dk_at dksX10_leafRead_6 6 rfl rfl)
theorem dX10_leafRead_147 : decode cX10_leafRead 147 = .ok (.iconst 0, 1) := dk_3 (dk_at dksX10_leafRead_6 9 rfl rfl)
theorem dX10_leafRead_148 : decode cX10_leafRead 148 = .ok (.iload_n 1, 1) := dk_27 (dk_at dksX10_leafRead_6 10 rfl rfl)
theorem dX10_leafRead_149 : decode cX10_leafRead 149 = .ok (.ifCond .lt 7, 3) := dk_155 0 7 (dk_at dksX10_leafRead_6 11 rfl rfl)
theorem dX10_leafRead_152 : decode cX10_leafRead 152 = .ok (.iload_n 1, 1) := dk_27 (dk_at dksX10_leafRead_6 14 rfl rfl)
theorem dX10_leafRead_153 : decode cX10_leafRead 153 = .ok (.goto 7, 3) := dk_167 0 7 (dk_at dksX10_leafRead_6 15 rfl rfl)
theorem dX10_leafRead_156 : decode cX10_leafRead 156 = .ok (.aload_n 0, 1) := dk_42 (dk_at dksX10_leafRead_6 18 rfl rfl)
theorem dX10_leafRead_157 : decode cX10_leafRead 157 = .ok (.getfield 177, 3) := dk_180 0 177 (dk_at dksX10_leafRead_6 19 rfl rfl)
theorem dX10_leafRead_160 : decode cX10_leafRead 160 = .ok (.iconst 0, 1) := dk_3 (dk_at dksX10_leafRead_6 22 rfl rfl)
theorem dX10_leafRead_161 : decode cX10_leafRead 161 = .ok (.invokevirtual 309, 3) := dk_182 1 53 (dk_at dksX10_leafRead_7 0 rfl rfl)
theorem dX10_leafRead_164 : decode cX10_leafRead 164 = .ok (.aload_n 0, 1) := dk_42 (dk_at dksX10_leafRead_7 3 rfl rfl)
theorem dX10_leafRead_165 : decode cX10_leafRead 165 = .ok (.iconst 0, 1) := dk_3 (dk_at dksX10_leafRead_7 4 rfl rfl)
theorem dX10_leafRead_166 : decode cX10_leafRead 166 = .ok (.putfield 330, 3) := dk_181 1 74 (dk_at dksX10_leafRead_7 5 rfl rfl)
theorem dX10_leafRead_169 : decode cX10_leafRead 169 = .ok (.aload_n 0, 1) := dk_42 (dk_at dksX10_leafRead_7 8 rfl rfl)
theorem dX10_leafRead_170 : decode cX10_leafRead 170 = .ok (.invokevirtual 200, 3) := dk_182 0 200 (dk_at dksX10_leafRead_7 9 rfl rfl)
theorem dX10_leafRead_173 : decode cX10_leafRead 173 = .ok (.iconst 1, 1) := dk_4 (dk_at dksX10_leafRead_7 12 rfl rfl)
theorem dX10_leafRead_174 : decode cX10_leafRead 174 = .ok (.ireturn, 1) := dk_172 (dk_at dksX10_leafRead_7 13 rfl rfl)
def dkwX10_waitsFor_0 : List UInt8 := [42, 180, 0, 87, 42, 180, 1, 42, 27, 79, 42, 89, 180, 1, 42, 4, 96, 181, 1, 42, 177]
abbrev dktX10_waitsFor_0 : List UInt8 := dkwX10_waitsFor_0 ++ []
theorem dksX10_waitsFor_0 : cX10_waitsFor.data.toList.drop 0 = dktX10_waitsFor_0 := by decide +kernel
theorem dX10_waitsFor_0 : decode cX10_waitsFor 0 = .ok (.aload_n 0, 1) := dk_42 (dk_at dksX10_waitsFor_0 0 rfl rfl)
theorem dX10_waitsFor_1 : decode cX10_waitsFor 1 = .ok (.getfield 87, 3) := dk_180 0 87 (dk_at dksX10_waitsFor_0 1 rfl rfl)
theorem dX10_waitsFor_4 : decode cX10_waitsFor 4 = .ok (.aload_n 0, 1) := dk_42 (dk_at dksX10_waitsFor_0 4 rfl rfl)
theorem dX10_waitsFor_5 : decode cX10_waitsFor 5 = .ok (.getfield 298, 3) := dk_180 1 42 (dk_at dksX10_waitsFor_0 5 rfl rfl)
theorem dX10_waitsFor_8 : decode cX10_waitsFor 8 = .ok (.iload_n 1, 1) := dk_27 (dk_at dksX10_waitsFor_0 8 rfl rfl)
theorem dX10_waitsFor_9 : decode cX10_waitsFor 9 = .ok (.iastore, 1) := dk_79 (dk_at dksX10_waitsFor_0 9 rfl rfl)
theorem dX10_waitsFor_10 : decode cX10_waitsFor 10 = .ok (.aload_n 0, 1) := dk_42 (dk_at dksX10_waitsFor_0 10 rfl rfl)
theorem dX10_waitsFor_11 : decode cX10_waitsFor 11 = .ok (.dup, 1) := dk_89 (dk_at dksX10_waitsFor_0 11 rfl rfl)
theorem dX10_waitsFor_12 : decode cX10_waitsFor 12 = .ok (.getfield 298, 3) := dk_180 1 42 (dk_at dksX10_waitsFor_0 12 rfl rfl)
theorem dX10_waitsFor_15 : decode cX10_waitsFor 15 = .ok (.iconst 1, 1) := dk_4 (dk_at dksX10_waitsFor_0 15 rfl rfl)
theorem dX10_waitsFor_16 : decode cX10_waitsFor 16 = .ok (.iadd, 1) := dk_96 (dk_at dksX10_waitsFor_0 16 rfl rfl)
theorem dX10_waitsFor_17 : decode cX10_waitsFor 17 = .ok (.putfield 298, 3) := dk_181 1 42 (dk_at dksX10_waitsFor_0 17 rfl rfl)
theorem dX10_waitsFor_20 : decode cX10_waitsFor 20 = .ok (.return_, 1) := dk_177 (dk_at dksX10_waitsFor_0 20 rfl rfl)
def dkwX10_isCounted_1 : List UInt8 := [181, 0, 225, 4, 172]
abbrev dktX10_isCounted_1 : List UInt8 := dkwX10_isCounted_1 ++ []
def dkwX10_isCounted_0 : List UInt8 := [42, 180, 0, 225, 16, 64, 160, 0, 9, 42, 5, 182, 0, 190, 172, 42, 89, 180, 0, 225, 4, 96]
abbrev dktX10_isCounted_0 : List UInt8 := dkwX10_isCounted_0 ++ dktX10_isCounted_1
theorem dksX10_isCounted_0 : cX10_isCounted.data.toList.drop 0 = dktX10_isCounted_0 := by decide +kernel
theorem dksX10_isCounted_1 : cX10_isCounted.data.toList.drop 22 = dktX10_isCounted_1 := dk_seg dksX10_isCounted_0 22 rfl rfl
theorem dX10_isCounted_0 : decode cX10_isCounted 0 = .ok (.aload_n 0, 1) := dk_42 (dk_at dksX10_isCounted_0 0 rfl rfl)
theorem dX10_isCounted_1 : decode cX10_isCounted 1 = .ok (.getfield 225, 3) := dk_180 0 225 (dk_at dksX10_isCounted_0 1 rfl rfl)
theorem dX10_isCounted_4 : decode cX10_isCounted 4 = .ok (.bipush 64, 2) := dk_16 64 (dk_at dksX10_isCounted_0 4 rfl rfl)
theorem dX10_isCounted_6 : decode cX10_isCounted 6 = .ok (.if_icmp .ne 9, 3) := dk_160 0 9 (dk_at dksX10_isCounted_0 6 rfl rfl)
theorem dX10_isCounted_9 : decode cX10_isCounted 9 = .ok (.aload_n 0, 1) := dk_42 (dk_at dksX10_isCounted_0 9 rfl rfl)
theorem dX10_isCounted_10 : decode cX10_isCounted 10 = .ok (.iconst 2, 1) := dk_5 (dk_at dksX10_isCounted_0 10 rfl rfl)
theorem dX10_isCounted_11 : decode cX10_isCounted 11 = .ok (.invokevirtual 190, 3) := dk_182 0 190 (dk_at dksX10_isCounted_0 11 rfl rfl)
theorem dX10_isCounted_14 : decode cX10_isCounted 14 = .ok (.ireturn, 1) := dk_172 (dk_at dksX10_isCounted_0 14 rfl rfl)
theorem dX10_isCounted_15 : decode cX10_isCounted 15 = .ok (.aload_n 0, 1) := dk_42 (dk_at dksX10_isCounted_0 15 rfl rfl)
theorem dX10_isCounted_16 : decode cX10_isCounted 16 = .ok (.dup, 1) := dk_89 (dk_at dksX10_isCounted_0 16 rfl rfl)
theorem dX10_isCounted_17 : decode cX10_isCounted 17 = .ok (.getfield 225, 3) := dk_180 0 225 (dk_at dksX10_isCounted_0 17 rfl rfl)
theorem dX10_isCounted_20 : decode cX10_isCounted 20 = .ok (.iconst 1, 1) := dk_4 (dk_at dksX10_isCounted_0 20 rfl rfl)
theorem dX10_isCounted_21 : decode cX10_isCounted 21 = .ok (.iadd, 1) := dk_96 (dk_at dksX10_isCounted_0 21 rfl rfl)
theorem dX10_isCounted_22 : decode cX10_isCounted 22 = .ok (.putfield 225, 3) := dk_181 0 225 (dk_at dksX10_isCounted_1 0 rfl rfl)
theorem dX10_isCounted_25 : decode cX10_isCounted 25 = .ok (.iconst 1, 1) := dk_4 (dk_at dksX10_isCounted_1 3 rfl rfl)
theorem dX10_isCounted_26 : decode cX10_isCounted 26 = .ok (.ireturn, 1) := dk_172 (dk_at dksX10_isCounted_1 4 rfl rfl)
def dkwX10_nameMet_1 : List UInt8 := [167, 0, 4, 2, 172]
abbrev dktX10_nameMet_1 : List UInt8 := dkwX10_nameMet_1 ++ []
def dkwX10_nameMet_0 : List UInt8 := [42, 180, 0, 166, 4, 160, 0, 22, 42, 180, 0, 177, 16, 18, 161, 0, 13, 42, 180, 0, 177, 16, 18, 100]
abbrev dktX10_nameMet_0 : List UInt8 := dkwX10_nameMet_0 ++ dktX10_nameMet_1
theorem dksX10_nameMet_0 : cX10_nameMet.data.toList.drop 0 = dktX10_nameMet_0 := by decide +kernel
theorem dksX10_nameMet_1 : cX10_nameMet.data.toList.drop 24 = dktX10_nameMet_1 := dk_seg dksX10_nameMet_0 24 rfl rfl
theorem dX10_nameMet_0 : decode cX10_nameMet 0 = .ok (.aload_n 0, 1) := dk_42 (dk_at dksX10_nameMet_0 0 rfl rfl)
theorem dX10_nameMet_1 : decode cX10_nameMet 1 = .ok (.getfield 166, 3) := dk_180 0 166 (dk_at dksX10_nameMet_0 1 rfl rfl)
theorem dX10_nameMet_4 : decode cX10_nameMet 4 = .ok (.iconst 1, 1) := dk_4 (dk_at dksX10_nameMet_0 4 rfl rfl)
theorem dX10_nameMet_5 : decode cX10_nameMet 5 = .ok (.if_icmp .ne 22, 3) := dk_160 0 22 (dk_at dksX10_nameMet_0 5 rfl rfl)
theorem dX10_nameMet_8 : decode cX10_nameMet 8 = .ok (.aload_n 0, 1) := dk_42 (dk_at dksX10_nameMet_0 8 rfl rfl)
theorem dX10_nameMet_9 : decode cX10_nameMet 9 = .ok (.getfield 177, 3) := dk_180 0 177 (dk_at dksX10_nameMet_0 9 rfl rfl)
theorem dX10_nameMet_12 : decode cX10_nameMet 12 = .ok (.bipush 18, 2) := dk_16 18 (dk_at dksX10_nameMet_0 12 rfl rfl)
theorem dX10_nameMet_14 : decode cX10_nameMet 14 = .ok (.if_icmp .lt 13, 3) := dk_161 0 13 (dk_at dksX10_nameMet_0 14 rfl rfl)
theorem dX10_nameMet_17 : decode cX10_nameMet 17 = .ok (.aload_n 0, 1) := dk_42 (dk_at dksX10_nameMet_0 17 rfl rfl)
theorem dX10_nameMet_18 : decode cX10_nameMet 18 = .ok (.getfield 177, 3) := dk_180 0 177 (dk_at dksX10_nameMet_0 18 rfl rfl)
theorem dX10_nameMet_21 : decode cX10_nameMet 21 = .ok (.bipush 18, 2) := dk_16 18 (dk_at dksX10_nameMet_0 21 rfl rfl)
theorem dX10_nameMet_23 : decode cX10_nameMet 23 = .ok (.isub, 1) := dk_100 (dk_at dksX10_nameMet_0 23 rfl rfl)
theorem dX10_nameMet_24 : decode cX10_nameMet 24 = .ok (.goto 4, 3) := dk_167 0 4 (dk_at dksX10_nameMet_1 0 rfl rfl)
theorem dX10_nameMet_27 : decode cX10_nameMet 27 = .ok (.iconst (-1), 1) := dk_2 (dk_at dksX10_nameMet_1 3 rfl rfl)
theorem dX10_nameMet_28 : decode cX10_nameMet 28 = .ok (.ireturn, 1) := dk_172 (dk_at dksX10_nameMet_1 4 rfl rfl)
def dkwX10_grown_3 : List UInt8 := [177]
abbrev dktX10_grown_3 : List UInt8 := dkwX10_grown_3 ++ []
def dkwX10_grown_2 : List UInt8 := [180, 0, 222, 79, 42, 89, 180, 1, 39, 4, 96, 181, 1, 39, 42, 89, 180, 0, 222, 4, 96, 181, 0, 222]
abbrev dktX10_grown_2 : List UInt8 := dkwX10_grown_2 ++ dktX10_grown_3
def dkwX10_grown_1 : List UInt8 := [28, 79, 42, 180, 0, 84, 16, 64, 42, 180, 0, 222, 96, 29, 79, 42, 180, 0, 90, 42, 180, 1, 39, 42]
abbrev dktX10_grown_1 : List UInt8 := dkwX10_grown_1 ++ dktX10_grown_2
def dkwX10_grown_0 : List UInt8 := [42, 180, 0, 78, 16, 64, 42, 180, 0, 222, 96, 27, 79, 42, 180, 0, 81, 16, 64, 42, 180, 0, 222, 96]
abbrev dktX10_grown_0 : List UInt8 := dkwX10_grown_0 ++ dktX10_grown_1
theorem dksX10_grown_0 : cX10_grown.data.toList.drop 0 = dktX10_grown_0 := by decide +kernel
theorem dksX10_grown_1 : cX10_grown.data.toList.drop 24 = dktX10_grown_1 := dk_seg dksX10_grown_0 24 rfl rfl
theorem dksX10_grown_2 : cX10_grown.data.toList.drop 48 = dktX10_grown_2 := dk_seg dksX10_grown_1 24 rfl rfl
theorem dksX10_grown_3 : cX10_grown.data.toList.drop 72 = dktX10_grown_3 := dk_seg dksX10_grown_2 24 rfl rfl
theorem dX10_grown_0 : decode cX10_grown 0 = .ok (.aload_n 0, 1) := dk_42 (dk_at dksX10_grown_0 0 rfl rfl)
theorem dX10_grown_1 : decode cX10_grown 1 = .ok (.getfield 78, 3) := dk_180 0 78 (dk_at dksX10_grown_0 1 rfl rfl)
theorem dX10_grown_4 : decode cX10_grown 4 = .ok (.bipush 64, 2) := dk_16 64 (dk_at dksX10_grown_0 4 rfl rfl)
theorem dX10_grown_6 : decode cX10_grown 6 = .ok (.aload_n 0, 1) := dk_42 (dk_at dksX10_grown_0 6 rfl rfl)
theorem dX10_grown_7 : decode cX10_grown 7 = .ok (.getfield 222, 3) := dk_180 0 222 (dk_at dksX10_grown_0 7 rfl rfl)
theorem dX10_grown_10 : decode cX10_grown 10 = .ok (.iadd, 1) := dk_96 (dk_at dksX10_grown_0 10 rfl rfl)
theorem dX10_grown_11 : decode cX10_grown 11 = .ok (.iload_n 1, 1) := dk_27 (dk_at dksX10_grown_0 11 rfl rfl)
theorem dX10_grown_12 : decode cX10_grown 12 = .ok (.iastore, 1) := dk_79 (dk_at dksX10_grown_0 12 rfl rfl)
theorem dX10_grown_13 : decode cX10_grown 13 = .ok (.aload_n 0, 1) := dk_42 (dk_at dksX10_grown_0 13 rfl rfl)
theorem dX10_grown_14 : decode cX10_grown 14 = .ok (.getfield 81, 3) := dk_180 0 81 (dk_at dksX10_grown_0 14 rfl rfl)
theorem dX10_grown_17 : decode cX10_grown 17 = .ok (.bipush 64, 2) := dk_16 64 (dk_at dksX10_grown_0 17 rfl rfl)
theorem dX10_grown_19 : decode cX10_grown 19 = .ok (.aload_n 0, 1) := dk_42 (dk_at dksX10_grown_0 19 rfl rfl)
theorem dX10_grown_20 : decode cX10_grown 20 = .ok (.getfield 222, 3) := dk_180 0 222 (dk_at dksX10_grown_0 20 rfl rfl)
theorem dX10_grown_23 : decode cX10_grown 23 = .ok (.iadd, 1) := dk_96 (dk_at dksX10_grown_0 23 rfl rfl)
theorem dX10_grown_24 : decode cX10_grown 24 = .ok (.iload_n 2, 1) := dk_28 (dk_at dksX10_grown_1 0 rfl rfl)
theorem dX10_grown_25 : decode cX10_grown 25 = .ok (.iastore, 1) := dk_79 (dk_at dksX10_grown_1 1 rfl rfl)
theorem dX10_grown_26 : decode cX10_grown 26 = .ok (.aload_n 0, 1) := dk_42 (dk_at dksX10_grown_1 2 rfl rfl)
theorem dX10_grown_27 : decode cX10_grown 27 = .ok (.getfield 84, 3) := dk_180 0 84 (dk_at dksX10_grown_1 3 rfl rfl)
theorem dX10_grown_30 : decode cX10_grown 30 = .ok (.bipush 64, 2) := dk_16 64 (dk_at dksX10_grown_1 6 rfl rfl)
theorem dX10_grown_32 : decode cX10_grown 32 = .ok (.aload_n 0, 1) := dk_42 (dk_at dksX10_grown_1 8 rfl rfl)
theorem dX10_grown_33 : decode cX10_grown 33 = .ok (.getfield 222, 3) := dk_180 0 222 (dk_at dksX10_grown_1 9 rfl rfl)
theorem dX10_grown_36 : decode cX10_grown 36 = .ok (.iadd, 1) := dk_96 (dk_at dksX10_grown_1 12 rfl rfl)
theorem dX10_grown_37 : decode cX10_grown 37 = .ok (.iload_n 3, 1) := dk_29 (dk_at dksX10_grown_1 13 rfl rfl)
theorem dX10_grown_38 : decode cX10_grown 38 = .ok (.iastore, 1) := dk_79 (dk_at dksX10_grown_1 14 rfl rfl)
theorem dX10_grown_39 : decode cX10_grown 39 = .ok (.aload_n 0, 1) := dk_42 (dk_at dksX10_grown_1 15 rfl rfl)
theorem dX10_grown_40 : decode cX10_grown 40 = .ok (.getfield 90, 3) := dk_180 0 90 (dk_at dksX10_grown_1 16 rfl rfl)
theorem dX10_grown_43 : decode cX10_grown 43 = .ok (.aload_n 0, 1) := dk_42 (dk_at dksX10_grown_1 19 rfl rfl)
theorem dX10_grown_44 : decode cX10_grown 44 = .ok (.getfield 295, 3) := dk_180 1 39 (dk_at dksX10_grown_1 20 rfl rfl)
theorem dX10_grown_47 : decode cX10_grown 47 = .ok (.aload_n 0, 1) := dk_42 (dk_at dksX10_grown_1 23 rfl rfl)
theorem dX10_grown_48 : decode cX10_grown 48 = .ok (.getfield 222, 3) := dk_180 0 222 (dk_at dksX10_grown_2 0 rfl rfl)
theorem dX10_grown_51 : decode cX10_grown 51 = .ok (.iastore, 1) := dk_79 (dk_at dksX10_grown_2 3 rfl rfl)
theorem dX10_grown_52 : decode cX10_grown 52 = .ok (.aload_n 0, 1) := dk_42 (dk_at dksX10_grown_2 4 rfl rfl)
theorem dX10_grown_53 : decode cX10_grown 53 = .ok (.dup, 1) := dk_89 (dk_at dksX10_grown_2 5 rfl rfl)
theorem dX10_grown_54 : decode cX10_grown 54 = .ok (.getfield 295, 3) := dk_180 1 39 (dk_at dksX10_grown_2 6 rfl rfl)
theorem dX10_grown_57 : decode cX10_grown 57 = .ok (.iconst 1, 1) := dk_4 (dk_at dksX10_grown_2 9 rfl rfl)
theorem dX10_grown_58 : decode cX10_grown 58 = .ok (.iadd, 1) := dk_96 (dk_at dksX10_grown_2 10 rfl rfl)
theorem dX10_grown_59 : decode cX10_grown 59 = .ok (.putfield 295, 3) := dk_181 1 39 (dk_at dksX10_grown_2 11 rfl rfl)
theorem dX10_grown_62 : decode cX10_grown 62 = .ok (.aload_n 0, 1) := dk_42 (dk_at dksX10_grown_2 14 rfl rfl)
theorem dX10_grown_63 : decode cX10_grown 63 = .ok (.dup, 1) := dk_89 (dk_at dksX10_grown_2 15 rfl rfl)
theorem dX10_grown_64 : decode cX10_grown 64 = .ok (.getfield 222, 3) := dk_180 0 222 (dk_at dksX10_grown_2 16 rfl rfl)
theorem dX10_grown_67 : decode cX10_grown 67 = .ok (.iconst 1, 1) := dk_4 (dk_at dksX10_grown_2 19 rfl rfl)
theorem dX10_grown_68 : decode cX10_grown 68 = .ok (.iadd, 1) := dk_96 (dk_at dksX10_grown_2 20 rfl rfl)
theorem dX10_grown_69 : decode cX10_grown 69 = .ok (.putfield 222, 3) := dk_181 0 222 (dk_at dksX10_grown_2 21 rfl rfl)
theorem dX10_grown_72 : decode cX10_grown 72 = .ok (.return_, 1) := dk_177 (dk_at dksX10_grown_3 0 rfl rfl)
def dkwX10_signs_11 : List UInt8 := [182, 0, 200, 4, 172]
abbrev dktX10_signs_11 : List UInt8 := dkwX10_signs_11 ++ []
def dkwX10_signs_10 : List UInt8 := [42, 4, 181, 1, 74, 42, 27, 184, 1, 45, 6, 162, 0, 7, 4, 167, 0, 4, 3, 181, 1, 64, 42]
abbrev dktX10_signs_10 : List UInt8 := dkwX10_signs_10 ++ dktX10_signs_11
def dkwX10_signs_9 : List UInt8 := [7, 160, 0, 9, 42, 4, 182, 0, 190, 172, 42, 182, 1, 68, 154, 0, 5, 3, 172, 42, 27, 182, 1, 60]
abbrev dktX10_signs_9 : List UInt8 := dkwX10_signs_9 ++ dktX10_signs_10
def dkwX10_signs_8 : List UInt8 := [160, 0, 34, 42, 180, 1, 42, 158, 0, 27, 42, 180, 0, 87, 42, 180, 1, 42, 4, 100, 46, 184, 1, 45]
abbrev dktX10_signs_8 : List UInt8 := dkwX10_signs_8 ++ dktX10_signs_9
def dkwX10_signs_7 : List UInt8 := [184, 1, 45, 7, 160, 0, 7, 8, 167, 0, 7, 27, 184, 1, 45, 182, 1, 77, 27, 184, 1, 45, 7]
abbrev dktX10_signs_7 : List UInt8 := dkwX10_signs_7 ++ dktX10_signs_8
def dkwX10_signs_6 : List UInt8 := [153, 0, 8, 16, 14, 167, 0, 4, 3, 60, 27, 154, 0, 9, 42, 4, 182, 0, 190, 172, 42, 27]
abbrev dktX10_signs_6 : List UInt8 := dkwX10_signs_6 ++ dktX10_signs_7
def dkwX10_signs_5 : List UInt8 := [167, 0, 32, 42, 16, 42, 182, 0, 203, 153, 0, 8, 16, 13, 167, 0, 18, 42, 16, 47, 182, 0, 203]
abbrev dktX10_signs_5 : List UInt8 := dkwX10_signs_5 ++ dktX10_signs_6
def dkwX10_signs_4 : List UInt8 := [182, 0, 203, 153, 0, 8, 16, 11, 167, 0, 46, 42, 16, 45, 182, 0, 203, 153, 0, 8, 16, 12]
abbrev dktX10_signs_4 : List UInt8 := dkwX10_signs_4 ++ dktX10_signs_5
def dkwX10_signs_3 : List UInt8 := [167, 0, 77, 42, 180, 0, 166, 8, 160, 0, 12, 8, 42, 180, 0, 177, 96, 167, 0, 60, 42, 16, 43]
abbrev dktX10_signs_3 : List UInt8 := dkwX10_signs_3 ++ dktX10_signs_4
def dkwX10_signs_2 : List UInt8 := [42, 16, 15, 182, 0, 254, 153, 0, 7, 6, 167, 0, 90, 42, 16, 16, 182, 0, 254, 153, 0, 7, 7]
abbrev dktX10_signs_2 : List UInt8 := dkwX10_signs_2 ++ dktX10_signs_3
def dkwX10_signs_1 : List UInt8 := [180, 1, 42, 4, 100, 181, 1, 42, 42, 89, 180, 1, 57, 4, 100, 181, 1, 57, 42, 182, 0, 200, 4, 172]
abbrev dktX10_signs_1 : List UInt8 := dkwX10_signs_1 ++ dktX10_signs_2
def dkwX10_signs_0 : List UInt8 := [42, 16, 41, 182, 0, 203, 153, 0, 41, 42, 180, 1, 57, 158, 0, 34, 42, 4, 182, 1, 77, 42, 89]
abbrev dktX10_signs_0 : List UInt8 := dkwX10_signs_0 ++ dktX10_signs_1
theorem dksX10_signs_0 : cX10_signs.data.toList.drop 0 = dktX10_signs_0 := by decide +kernel
theorem dksX10_signs_1 : cX10_signs.data.toList.drop 23 = dktX10_signs_1 := dk_seg dksX10_signs_0 23 rfl rfl
theorem dksX10_signs_2 : cX10_signs.data.toList.drop 47 = dktX10_signs_2 := dk_seg dksX10_signs_1 24 rfl rfl
theorem dksX10_signs_3 : cX10_signs.data.toList.drop 70 = dktX10_signs_3 := dk_seg dksX10_signs_2 23 rfl rfl
theorem dksX10_signs_4 : cX10_signs.data.toList.drop 93 = dktX10_signs_4 := dk_seg dksX10_signs_3 23 rfl rfl
theorem dksX10_signs_5 : cX10_signs.data.toList.drop 115 = dktX10_signs_5 := dk_seg dksX10_signs_4 22 rfl rfl
theorem dksX10_signs_6 : cX10_signs.data.toList.drop 138 = dktX10_signs_6 := dk_seg dksX10_signs_5 23 rfl rfl
theorem dksX10_signs_7 : cX10_signs.data.toList.drop 160 = dktX10_signs_7 := dk_seg dksX10_signs_6 22 rfl rfl
theorem dksX10_signs_8 : cX10_signs.data.toList.drop 183 = dktX10_signs_8 := dk_seg dksX10_signs_7 23 rfl rfl
theorem dksX10_signs_9 : cX10_signs.data.toList.drop 207 = dktX10_signs_9 := dk_seg dksX10_signs_8 24 rfl rfl
theorem dksX10_signs_10 : cX10_signs.data.toList.drop 231 = dktX10_signs_10 := dk_seg dksX10_signs_9 24 rfl rfl
theorem dksX10_signs_11 : cX10_signs.data.toList.drop 254 = dktX10_signs_11 := dk_seg dksX10_signs_10 23 rfl rfl
theorem dX10_signs_0 : decode cX10_signs 0 = .ok (.aload_n 0, 1) := dk_42 (dk_at dksX10_signs_0 0 rfl rfl)
theorem dX10_signs_1 : decode cX10_signs 1 = .ok (.bipush 41, 2) := dk_16 41 (dk_at dksX10_signs_0 1 rfl rfl)
theorem dX10_signs_3 : decode cX10_signs 3 = .ok (.invokevirtual 203, 3) := dk_182 0 203 (dk_at dksX10_signs_0 3 rfl rfl)
theorem dX10_signs_6 : decode cX10_signs 6 = .ok (.ifCond .eq 41, 3) := dk_153 0 41 (dk_at dksX10_signs_0 6 rfl rfl)
theorem dX10_signs_9 : decode cX10_signs 9 = .ok (.aload_n 0, 1) := dk_42 (dk_at dksX10_signs_0 9 rfl rfl)
theorem dX10_signs_10 : decode cX10_signs 10 = .ok (.getfield 313, 3) := dk_180 1 57 (dk_at dksX10_signs_0 10 rfl rfl)
theorem dX10_signs_13 : decode cX10_signs 13 = .ok (.ifCond .le 34, 3) := dk_158 0 34 (dk_at dksX10_signs_0 13 rfl rfl)
theorem dX10_signs_16 : decode cX10_signs 16 = .ok (.aload_n 0, 1) := dk_42 (dk_at dksX10_signs_0 16 rfl rfl)
theorem dX10_signs_17 : decode cX10_signs 17 = .ok (.iconst 1, 1) := dk_4 (dk_at dksX10_signs_0 17 rfl rfl)
theorem dX10_signs_18 : decode cX10_signs 18 = .ok (.invokevirtual 333, 3) := dk_182 1 77 (dk_at dksX10_signs_0 18 rfl rfl)
theorem dX10_signs_21 : decode cX10_signs 21 = .ok (.aload_n 0, 1) := dk_42 (dk_at dksX10_signs_0 21 rfl rfl)
theorem dX10_signs_22 : decode cX10_signs 22 = .ok (.dup, 1) := dk_89 (dk_at dksX10_signs_0 22 rfl rfl)
theorem dX10_signs_23 : decode cX10_signs 23 = .ok (.getfield 298, 3) := dk_180 1 42 (dk_at dksX10_signs_1 0 rfl rfl)
theorem dX10_signs_26 : decode cX10_signs 26 = .ok (.iconst 1, 1) := dk_4 (dk_at dksX10_signs_1 3 rfl rfl)
theorem dX10_signs_27 : decode cX10_signs 27 = .ok (.isub, 1) := dk_100 (dk_at dksX10_signs_1 4 rfl rfl)
theorem dX10_signs_28 : decode cX10_signs 28 = .ok (.putfield 298, 3) := dk_181 1 42 (dk_at dksX10_signs_1 5 rfl rfl)
theorem dX10_signs_31 : decode cX10_signs 31 = .ok (.aload_n 0, 1) := dk_42 (dk_at dksX10_signs_1 8 rfl rfl)
theorem dX10_signs_32 : decode cX10_signs 32 = .ok (.dup, 1) := dk_89 (dk_at dksX10_signs_1 9 rfl rfl)
theorem dX10_signs_33 : decode cX10_signs 33 = .ok (.getfield 313, 3) := dk_180 1 57 (dk_at dksX10_signs_1 10 rfl rfl)
theorem dX10_signs_36 : decode cX10_signs 36 = .ok (.iconst 1, 1) := dk_4 (dk_at dksX10_signs_1 13 rfl rfl)
theorem dX10_signs_37 : decode cX10_signs 37 = .ok (.isub, 1) := dk_100 (dk_at dksX10_signs_1 14 rfl rfl)
theorem dX10_signs_38 : decode cX10_signs 38 = .ok (.putfield 313, 3) := dk_181 1 57 (dk_at dksX10_signs_1 15 rfl rfl)
theorem dX10_signs_41 : decode cX10_signs 41 = .ok (.aload_n 0, 1) := dk_42 (dk_at dksX10_signs_1 18 rfl rfl)
theorem dX10_signs_42 : decode cX10_signs 42 = .ok (.invokevirtual 200, 3) := dk_182 0 200 (dk_at dksX10_signs_1 19 rfl rfl)
theorem dX10_signs_45 : decode cX10_signs 45 = .ok (.iconst 1, 1) := dk_4 (dk_at dksX10_signs_1 22 rfl rfl)
theorem dX10_signs_46 : decode cX10_signs 46 = .ok (.ireturn, 1) := dk_172 (dk_at dksX10_signs_1 23 rfl rfl)
theorem dX10_signs_47 : decode cX10_signs 47 = .ok (.aload_n 0, 1) := dk_42 (dk_at dksX10_signs_2 0 rfl rfl)
theorem dX10_signs_48 : decode cX10_signs 48 = .ok (.bipush 15, 2) := dk_16 15 (dk_at dksX10_signs_2 1 rfl rfl)
theorem dX10_signs_50 : decode cX10_signs 50 = .ok (.invokevirtual 254, 3) := dk_182 0 254 (dk_at dksX10_signs_2 3 rfl rfl)
theorem dX10_signs_53 : decode cX10_signs 53 = .ok (.ifCond .eq 7, 3) := dk_153 0 7 (dk_at dksX10_signs_2 6 rfl rfl)
theorem dX10_signs_56 : decode cX10_signs 56 = .ok (.iconst 3, 1) := dk_6 (dk_at dksX10_signs_2 9 rfl rfl)
theorem dX10_signs_57 : decode cX10_signs 57 = .ok (.goto 90, 3) := dk_167 0 90 (dk_at dksX10_signs_2 10 rfl rfl)
theorem dX10_signs_60 : decode cX10_signs 60 = .ok (.aload_n 0, 1) := dk_42 (dk_at dksX10_signs_2 13 rfl rfl)
theorem dX10_signs_61 : decode cX10_signs 61 = .ok (.bipush 16, 2) := dk_16 16 (dk_at dksX10_signs_2 14 rfl rfl)
theorem dX10_signs_63 : decode cX10_signs 63 = .ok (.invokevirtual 254, 3) := dk_182 0 254 (dk_at dksX10_signs_2 16 rfl rfl)
theorem dX10_signs_66 : decode cX10_signs 66 = .ok (.ifCond .eq 7, 3) := dk_153 0 7 (dk_at dksX10_signs_2 19 rfl rfl)
theorem dX10_signs_69 : decode cX10_signs 69 = .ok (.iconst 4, 1) := dk_7 (dk_at dksX10_signs_2 22 rfl rfl)
theorem dX10_signs_70 : decode cX10_signs 70 = .ok (.goto 77, 3) := dk_167 0 77 (dk_at dksX10_signs_3 0 rfl rfl)
theorem dX10_signs_73 : decode cX10_signs 73 = .ok (.aload_n 0, 1) := dk_42 (dk_at dksX10_signs_3 3 rfl rfl)
theorem dX10_signs_74 : decode cX10_signs 74 = .ok (.getfield 166, 3) := dk_180 0 166 (dk_at dksX10_signs_3 4 rfl rfl)
theorem dX10_signs_77 : decode cX10_signs 77 = .ok (.iconst 5, 1) := dk_8 (dk_at dksX10_signs_3 7 rfl rfl)
theorem dX10_signs_78 : decode cX10_signs 78 = .ok (.if_icmp .ne 12, 3) := dk_160 0 12 (dk_at dksX10_signs_3 8 rfl rfl)
theorem dX10_signs_81 : decode cX10_signs 81 = .ok (.iconst 5, 1) := dk_8 (dk_at dksX10_signs_3 11 rfl rfl)
theorem dX10_signs_82 : decode cX10_signs 82 = .ok (.aload_n 0, 1) := dk_42 (dk_at dksX10_signs_3 12 rfl rfl)
theorem dX10_signs_83 : decode cX10_signs 83 = .ok (.getfield 177, 3) := dk_180 0 177 (dk_at dksX10_signs_3 13 rfl rfl)
theorem dX10_signs_86 : decode cX10_signs 86 = .ok (.iadd, 1) := dk_96 (dk_at dksX10_signs_3 16 rfl rfl)
theorem dX10_signs_87 : decode cX10_signs 87 = .ok (.goto 60, 3) := dk_167 0 60 (dk_at dksX10_signs_3 17 rfl rfl)
theorem dX10_signs_90 : decode cX10_signs 90 = .ok (.aload_n 0, 1) := dk_42 (dk_at dksX10_signs_3 20 rfl rfl)
theorem dX10_signs_91 : decode cX10_signs 91 = .ok (.bipush 43, 2) := dk_16 43 (dk_at dksX10_signs_3 21 rfl rfl)
theorem dX10_signs_93 : decode cX10_signs 93 = .ok (.invokevirtual 203, 3) := dk_182 0 203 (dk_at dksX10_signs_4 0 rfl rfl)
theorem dX10_signs_96 : decode cX10_signs 96 = .ok (.ifCond .eq 8, 3) := dk_153 0 8 (dk_at dksX10_signs_4 3 rfl rfl)
theorem dX10_signs_99 : decode cX10_signs 99 = .ok (.bipush 11, 2) := dk_16 11 (dk_at dksX10_signs_4 6 rfl rfl)
theorem dX10_signs_101 : decode cX10_signs 101 = .ok (.goto 46, 3) := dk_167 0 46 (dk_at dksX10_signs_4 8 rfl rfl)
theorem dX10_signs_104 : decode cX10_signs 104 = .ok (.aload_n 0, 1) := dk_42 (dk_at dksX10_signs_4 11 rfl rfl)
theorem dX10_signs_105 : decode cX10_signs 105 = .ok (.bipush 45, 2) := dk_16 45 (dk_at dksX10_signs_4 12 rfl rfl)
theorem dX10_signs_107 : decode cX10_signs 107 = .ok (.invokevirtual 203, 3) := dk_182 0 203 (dk_at dksX10_signs_4 14 rfl rfl)
theorem dX10_signs_110 : decode cX10_signs 110 = .ok (.ifCond .eq 8, 3) := dk_153 0 8 (dk_at dksX10_signs_4 17 rfl rfl)
theorem dX10_signs_113 : decode cX10_signs 113 = .ok (.bipush 12, 2) := dk_16 12 (dk_at dksX10_signs_4 20 rfl rfl)
theorem dX10_signs_115 : decode cX10_signs 115 = .ok (.goto 32, 3) := dk_167 0 32 (dk_at dksX10_signs_5 0 rfl rfl)
theorem dX10_signs_118 : decode cX10_signs 118 = .ok (.aload_n 0, 1) := dk_42 (dk_at dksX10_signs_5 3 rfl rfl)
theorem dX10_signs_119 : decode cX10_signs 119 = .ok (.bipush 42, 2) := dk_16 42 (dk_at dksX10_signs_5 4 rfl rfl)
theorem dX10_signs_121 : decode cX10_signs 121 = .ok (.invokevirtual 203, 3) := dk_182 0 203 (dk_at dksX10_signs_5 6 rfl rfl)
theorem dX10_signs_124 : decode cX10_signs 124 = .ok (.ifCond .eq 8, 3) := dk_153 0 8 (dk_at dksX10_signs_5 9 rfl rfl)
theorem dX10_signs_127 : decode cX10_signs 127 = .ok (.bipush 13, 2) := dk_16 13 (dk_at dksX10_signs_5 12 rfl rfl)
theorem dX10_signs_129 : decode cX10_signs 129 = .ok (.goto 18, 3) := dk_167 0 18 (dk_at dksX10_signs_5 14 rfl rfl)
theorem dX10_signs_132 : decode cX10_signs 132 = .ok (.aload_n 0, 1) := dk_42 (dk_at dksX10_signs_5 17 rfl rfl)
theorem dX10_signs_133 : decode cX10_signs 133 = .ok (.bipush 47, 2) := dk_16 47 (dk_at dksX10_signs_5 18 rfl rfl)
theorem dX10_signs_135 : decode cX10_signs 135 = .ok (.invokevirtual 203, 3) := dk_182 0 203 (dk_at dksX10_signs_5 20 rfl rfl)
theorem dX10_signs_138 : decode cX10_signs 138 = .ok (.ifCond .eq 8, 3) := dk_153 0 8 (dk_at dksX10_signs_6 0 rfl rfl)
theorem dX10_signs_141 : decode cX10_signs 141 = .ok (.bipush 14, 2) := dk_16 14 (dk_at dksX10_signs_6 3 rfl rfl)
theorem dX10_signs_143 : decode cX10_signs 143 = .ok (.goto 4, 3) := dk_167 0 4 (dk_at dksX10_signs_6 5 rfl rfl)
theorem dX10_signs_146 : decode cX10_signs 146 = .ok (.iconst 0, 1) := dk_3 (dk_at dksX10_signs_6 8 rfl rfl)
theorem dX10_signs_147 : decode cX10_signs 147 = .ok (.istore_n 1, 1) := dk_60 (dk_at dksX10_signs_6 9 rfl rfl)
theorem dX10_signs_148 : decode cX10_signs 148 = .ok (.iload_n 1, 1) := dk_27 (dk_at dksX10_signs_6 10 rfl rfl)
theorem dX10_signs_149 : decode cX10_signs 149 = .ok (.ifCond .ne 9, 3) := dk_154 0 9 (dk_at dksX10_signs_6 11 rfl rfl)
theorem dX10_signs_152 : decode cX10_signs 152 = .ok (.aload_n 0, 1) := dk_42 (dk_at dksX10_signs_6 14 rfl rfl)
theorem dX10_signs_153 : decode cX10_signs 153 = .ok (.iconst 1, 1) := dk_4 (dk_at dksX10_signs_6 15 rfl rfl)
theorem dX10_signs_154 : decode cX10_signs 154 = .ok (.invokevirtual 190, 3) := dk_182 0 190 (dk_at dksX10_signs_6 16 rfl rfl)
theorem dX10_signs_157 : decode cX10_signs 157 = .ok (.ireturn, 1) := dk_172 (dk_at dksX10_signs_6 19 rfl rfl)
theorem dX10_signs_158 : decode cX10_signs 158 = .ok (.aload_n 0, 1) := dk_42 (dk_at dksX10_signs_6 20 rfl rfl)
theorem dX10_signs_159 : decode cX10_signs 159 = .ok (.iload_n 1, 1) := dk_27 (dk_at dksX10_signs_6 21 rfl rfl)
theorem dX10_signs_160 : decode cX10_signs 160 = .ok (.invokestatic 301, 3) := dk_184 1 45 (dk_at dksX10_signs_7 0 rfl rfl)
theorem dX10_signs_163 : decode cX10_signs 163 = .ok (.iconst 4, 1) := dk_7 (dk_at dksX10_signs_7 3 rfl rfl)
theorem dX10_signs_164 : decode cX10_signs 164 = .ok (.if_icmp .ne 7, 3) := dk_160 0 7 (dk_at dksX10_signs_7 4 rfl rfl)
theorem dX10_signs_167 : decode cX10_signs 167 = .ok (.iconst 5, 1) := dk_8 (dk_at dksX10_signs_7 7 rfl rfl)
theorem dX10_signs_168 : decode cX10_signs 168 = .ok (.goto 7, 3) := dk_167 0 7 (dk_at dksX10_signs_7 8 rfl rfl)
theorem dX10_signs_171 : decode cX10_signs 171 = .ok (.iload_n 1, 1) := dk_27 (dk_at dksX10_signs_7 11 rfl rfl)
theorem dX10_signs_172 : decode cX10_signs 172 = .ok (.invokestatic 301, 3) := dk_184 1 45 (dk_at dksX10_signs_7 12 rfl rfl)
theorem dX10_signs_175 : decode cX10_signs 175 = .ok (.invokevirtual 333, 3) := dk_182 1 77 (dk_at dksX10_signs_7 15 rfl rfl)
theorem dX10_signs_178 : decode cX10_signs 178 = .ok (.iload_n 1, 1) := dk_27 (dk_at dksX10_signs_7 18 rfl rfl)
theorem dX10_signs_179 : decode cX10_signs 179 = .ok (.invokestatic 301, 3) := dk_184 1 45 (dk_at dksX10_signs_7 19 rfl rfl)
theorem dX10_signs_182 : decode cX10_signs 182 = .ok (.iconst 4, 1) := dk_7 (dk_at dksX10_signs_7 22 rfl rfl)
theorem dX10_signs_183 : decode cX10_signs 183 = .ok (.if_icmp .ne 34, 3) := dk_160 0 34 (dk_at dksX10_signs_8 0 rfl rfl)
theorem dX10_signs_186 : decode cX10_signs 186 = .ok (.aload_n 0, 1) := dk_42 (dk_at dksX10_signs_8 3 rfl rfl)
theorem dX10_signs_187 : decode cX10_signs 187 = .ok (.getfield 298, 3) := dk_180 1 42 (dk_at dksX10_signs_8 4 rfl rfl)
theorem dX10_signs_190 : decode cX10_signs 190 = .ok (.ifCond .le 27, 3) := dk_158 0 27 (dk_at dksX10_signs_8 7 rfl rfl)
theorem dX10_signs_193 : decode cX10_signs 193 = .ok (.aload_n 0, 1) := dk_42 (dk_at dksX10_signs_8 10 rfl rfl)
theorem dX10_signs_194 : decode cX10_signs 194 = .ok (.getfield 87, 3) := dk_180 0 87 (dk_at dksX10_signs_8 11 rfl rfl)
theorem dX10_signs_197 : decode cX10_signs 197 = .ok (.aload_n 0, 1) := dk_42 (dk_at dksX10_signs_8 14 rfl rfl)
theorem dX10_signs_198 : decode cX10_signs 198 = .ok (.getfield 298, 3) := dk_180 1 42 (dk_at dksX10_signs_8 15 rfl rfl)
theorem dX10_signs_201 : decode cX10_signs 201 = .ok (.iconst 1, 1) := dk_4 (dk_at dksX10_signs_8 18 rfl rfl)
theorem dX10_signs_202 : decode cX10_signs 202 = .ok (.isub, 1) := dk_100 (dk_at dksX10_signs_8 19 rfl rfl)
theorem dX10_signs_203 : decode cX10_signs 203 = .ok (.iaload, 1) := dk_46 (dk_at dksX10_signs_8 20 rfl rfl)
theorem dX10_signs_204 : decode cX10_signs 204 = .ok (.invokestatic 301, 3) := dk_184 1 45 (dk_at dksX10_signs_8 21 rfl rfl)
theorem dX10_signs_207 : decode cX10_signs 207 = .ok (.iconst 4, 1) := dk_7 (dk_at dksX10_signs_9 0 rfl rfl)
theorem dX10_signs_208 : decode cX10_signs 208 = .ok (.if_icmp .ne 9, 3) := dk_160 0 9 (dk_at dksX10_signs_9 1 rfl rfl)
theorem dX10_signs_211 : decode cX10_signs 211 = .ok (.aload_n 0, 1) := dk_42 (dk_at dksX10_signs_9 4 rfl rfl)
theorem dX10_signs_212 : decode cX10_signs 212 = .ok (.iconst 1, 1) := dk_4 (dk_at dksX10_signs_9 5 rfl rfl)
theorem dX10_signs_213 : decode cX10_signs 213 = .ok (.invokevirtual 190, 3) := dk_182 0 190 (dk_at dksX10_signs_9 6 rfl rfl)
theorem dX10_signs_216 : decode cX10_signs 216 = .ok (.ireturn, 1) := dk_172 (dk_at dksX10_signs_9 9 rfl rfl)
theorem dX10_signs_217 : decode cX10_signs 217 = .ok (.aload_n 0, 1) := dk_42 (dk_at dksX10_signs_9 10 rfl rfl)
theorem dX10_signs_218 : decode cX10_signs 218 = .ok (.invokevirtual 324, 3) := dk_182 1 68 (dk_at dksX10_signs_9 11 rfl rfl)
theorem dX10_signs_221 : decode cX10_signs 221 = .ok (.ifCond .ne 5, 3) := dk_154 0 5 (dk_at dksX10_signs_9 14 rfl rfl)
theorem dX10_signs_224 : decode cX10_signs 224 = .ok (.iconst 0, 1) := dk_3 (dk_at dksX10_signs_9 17 rfl rfl)
theorem dX10_signs_225 : decode cX10_signs 225 = .ok (.ireturn, 1) := dk_172 (dk_at dksX10_signs_9 18 rfl rfl)
theorem dX10_signs_226 : decode cX10_signs 226 = .ok (.aload_n 0, 1) := dk_42 (dk_at dksX10_signs_9 19 rfl rfl)
theorem dX10_signs_227 : decode cX10_signs 227 = .ok (.iload_n 1, 1) := dk_27 (dk_at dksX10_signs_9 20 rfl rfl)
theorem dX10_signs_228 : decode cX10_signs 228 = .ok (.invokevirtual 316, 3) := dk_182 1 60 (dk_at dksX10_signs_9 21 rfl rfl)
theorem dX10_signs_231 : decode cX10_signs 231 = .ok (.aload_n 0, 1) := dk_42 (dk_at dksX10_signs_10 0 rfl rfl)
theorem dX10_signs_232 : decode cX10_signs 232 = .ok (.iconst 1, 1) := dk_4 (dk_at dksX10_signs_10 1 rfl rfl)
theorem dX10_signs_233 : decode cX10_signs 233 = .ok (.putfield 330, 3) := dk_181 1 74 (dk_at dksX10_signs_10 2 rfl rfl)
theorem dX10_signs_236 : decode cX10_signs 236 = .ok (.aload_n 0, 1) := dk_42 (dk_at dksX10_signs_10 5 rfl rfl)
theorem dX10_signs_237 : decode cX10_signs 237 = .ok (.iload_n 1, 1) := dk_27 (dk_at dksX10_signs_10 6 rfl rfl)
theorem dX10_signs_238 : decode cX10_signs 238 = .ok (.invokestatic 301, 3) := dk_184 1 45 (dk_at dksX10_signs_10 7 rfl rfl)
theorem dX10_signs_241 : decode cX10_signs 241 = .ok (.iconst 3, 1) := dk_6 (dk_at dksX10_signs_10 10 rfl rfl)
theorem dX10_signs_242 : decode cX10_signs 242 = .ok (.if_icmp .ge 7, 3) := dk_162 0 7 (dk_at dksX10_signs_10 11 rfl rfl)
theorem dX10_signs_245 : decode cX10_signs 245 = .ok (.iconst 1, 1) := dk_4 (dk_at dksX10_signs_10 14 rfl rfl)
theorem dX10_signs_246 : decode cX10_signs 246 = .ok (.goto 4, 3) := dk_167 0 4 (dk_at dksX10_signs_10 15 rfl rfl)
theorem dX10_signs_249 : decode cX10_signs 249 = .ok (.iconst 0, 1) := dk_3 (dk_at dksX10_signs_10 18 rfl rfl)
theorem dX10_signs_250 : decode cX10_signs 250 = .ok (.putfield 320, 3) := dk_181 1 64 (dk_at dksX10_signs_10 19 rfl rfl)
theorem dX10_signs_253 : decode cX10_signs 253 = .ok (.aload_n 0, 1) := dk_42 (dk_at dksX10_signs_10 22 rfl rfl)
theorem dX10_signs_254 : decode cX10_signs 254 = .ok (.invokevirtual 200, 3) := dk_182 0 200 (dk_at dksX10_signs_11 0 rfl rfl)
theorem dX10_signs_257 : decode cX10_signs 257 = .ok (.iconst 1, 1) := dk_4 (dk_at dksX10_signs_11 3 rfl rfl)
theorem dX10_signs_258 : decode cX10_signs 258 = .ok (.ireturn, 1) := dk_172 (dk_at dksX10_signs_11 4 rfl rfl)
def dkwX10_bind_3 : List UInt8 := [182, 1, 53, 167, 255, 183, 177]
abbrev dktX10_bind_3 : List UInt8 := dkwX10_bind_3 ++ []
def dkwX10_bind_2 : List UInt8 := [5, 160, 0, 7, 2, 167, 0, 7, 42, 182, 1, 49, 62, 42, 182, 1, 49, 54, 4, 42, 28, 21, 4, 29]
abbrev dktX10_bind_2 : List UInt8 := dkwX10_bind_2 ++ dktX10_bind_3
def dkwX10_bind_1 : List UInt8 := [161, 0, 54, 42, 89, 180, 1, 42, 4, 100, 181, 1, 42, 42, 180, 0, 87, 42, 180, 1, 42, 46, 61, 28]
abbrev dktX10_bind_1 : List UInt8 := dkwX10_bind_1 ++ dktX10_bind_2
def dkwX10_bind_0 : List UInt8 := [42, 180, 1, 42, 158, 0, 72, 42, 180, 0, 87, 42, 180, 1, 42, 4, 100, 46, 184, 1, 45, 27]
abbrev dktX10_bind_0 : List UInt8 := dkwX10_bind_0 ++ dktX10_bind_1
theorem dksX10_bind_0 : cX10_bind.data.toList.drop 0 = dktX10_bind_0 := by decide +kernel
theorem dksX10_bind_1 : cX10_bind.data.toList.drop 22 = dktX10_bind_1 := dk_seg dksX10_bind_0 22 rfl rfl
theorem dksX10_bind_2 : cX10_bind.data.toList.drop 46 = dktX10_bind_2 := dk_seg dksX10_bind_1 24 rfl rfl
theorem dksX10_bind_3 : cX10_bind.data.toList.drop 70 = dktX10_bind_3 := dk_seg dksX10_bind_2 24 rfl rfl
theorem dX10_bind_0 : decode cX10_bind 0 = .ok (.aload_n 0, 1) := dk_42 (dk_at dksX10_bind_0 0 rfl rfl)
theorem dX10_bind_1 : decode cX10_bind 1 = .ok (.getfield 298, 3) := dk_180 1 42 (dk_at dksX10_bind_0 1 rfl rfl)
theorem dX10_bind_4 : decode cX10_bind 4 = .ok (.ifCond .le 72, 3) := dk_158 0 72 (dk_at dksX10_bind_0 4 rfl rfl)
theorem dX10_bind_7 : decode cX10_bind 7 = .ok (.aload_n 0, 1) := dk_42 (dk_at dksX10_bind_0 7 rfl rfl)
theorem dX10_bind_8 : decode cX10_bind 8 = .ok (.getfield 87, 3) := dk_180 0 87 (dk_at dksX10_bind_0 8 rfl rfl)
theorem dX10_bind_11 : decode cX10_bind 11 = .ok (.aload_n 0, 1) := dk_42 (dk_at dksX10_bind_0 11 rfl rfl)
theorem dX10_bind_12 : decode cX10_bind 12 = .ok (.getfield 298, 3) := dk_180 1 42 (dk_at dksX10_bind_0 12 rfl rfl)
theorem dX10_bind_15 : decode cX10_bind 15 = .ok (.iconst 1, 1) := dk_4 (dk_at dksX10_bind_0 15 rfl rfl)
theorem dX10_bind_16 : decode cX10_bind 16 = .ok (.isub, 1) := dk_100 (dk_at dksX10_bind_0 16 rfl rfl)
theorem dX10_bind_17 : decode cX10_bind 17 = .ok (.iaload, 1) := dk_46 (dk_at dksX10_bind_0 17 rfl rfl)
theorem dX10_bind_18 : decode cX10_bind 18 = .ok (.invokestatic 301, 3) := dk_184 1 45 (dk_at dksX10_bind_0 18 rfl rfl)
theorem dX10_bind_21 : decode cX10_bind 21 = .ok (.iload_n 1, 1) := dk_27 (dk_at dksX10_bind_0 21 rfl rfl)
theorem dX10_bind_22 : decode cX10_bind 22 = .ok (.if_icmp .lt 54, 3) := dk_161 0 54 (dk_at dksX10_bind_1 0 rfl rfl)
theorem dX10_bind_25 : decode cX10_bind 25 = .ok (.aload_n 0, 1) := dk_42 (dk_at dksX10_bind_1 3 rfl rfl)
theorem dX10_bind_26 : decode cX10_bind 26 = .ok (.dup, 1) := dk_89 (dk_at dksX10_bind_1 4 rfl rfl)
theorem dX10_bind_27 : decode cX10_bind 27 = .ok (.getfield 298, 3) := dk_180 1 42 (dk_at dksX10_bind_1 5 rfl rfl)
theorem dX10_bind_30 : decode cX10_bind 30 = .ok (.iconst 1, 1) := dk_4 (dk_at dksX10_bind_1 8 rfl rfl)
theorem dX10_bind_31 : decode cX10_bind 31 = .ok (.isub, 1) := dk_100 (dk_at dksX10_bind_1 9 rfl rfl)
theorem dX10_bind_32 : decode cX10_bind 32 = .ok (.putfield 298, 3) := dk_181 1 42 (dk_at dksX10_bind_1 10 rfl rfl)
theorem dX10_bind_35 : decode cX10_bind 35 = .ok (.aload_n 0, 1) := dk_42 (dk_at dksX10_bind_1 13 rfl rfl)
theorem dX10_bind_36 : decode cX10_bind 36 = .ok (.getfield 87, 3) := dk_180 0 87 (dk_at dksX10_bind_1 14 rfl rfl)
theorem dX10_bind_39 : decode cX10_bind 39 = .ok (.aload_n 0, 1) := dk_42 (dk_at dksX10_bind_1 17 rfl rfl)
theorem dX10_bind_40 : decode cX10_bind 40 = .ok (.getfield 298, 3) := dk_180 1 42 (dk_at dksX10_bind_1 18 rfl rfl)
theorem dX10_bind_43 : decode cX10_bind 43 = .ok (.iaload, 1) := dk_46 (dk_at dksX10_bind_1 21 rfl rfl)
theorem dX10_bind_44 : decode cX10_bind 44 = .ok (.istore_n 2, 1) := dk_61 (dk_at dksX10_bind_1 22 rfl rfl)
theorem dX10_bind_45 : decode cX10_bind 45 = .ok (.iload_n 2, 1) := dk_28 (dk_at dksX10_bind_1 23 rfl rfl)
theorem dX10_bind_46 : decode cX10_bind 46 = .ok (.iconst 2, 1) := dk_5 (dk_at dksX10_bind_2 0 rfl rfl)
theorem dX10_bind_47 : decode cX10_bind 47 = .ok (.if_icmp .ne 7, 3) := dk_160 0 7 (dk_at dksX10_bind_2 1 rfl rfl)
theorem dX10_bind_50 : decode cX10_bind 50 = .ok (.iconst (-1), 1) := dk_2 (dk_at dksX10_bind_2 4 rfl rfl)
theorem dX10_bind_51 : decode cX10_bind 51 = .ok (.goto 7, 3) := dk_167 0 7 (dk_at dksX10_bind_2 5 rfl rfl)
theorem dX10_bind_54 : decode cX10_bind 54 = .ok (.aload_n 0, 1) := dk_42 (dk_at dksX10_bind_2 8 rfl rfl)
theorem dX10_bind_55 : decode cX10_bind 55 = .ok (.invokevirtual 305, 3) := dk_182 1 49 (dk_at dksX10_bind_2 9 rfl rfl)
theorem dX10_bind_58 : decode cX10_bind 58 = .ok (.istore_n 3, 1) := dk_62 (dk_at dksX10_bind_2 12 rfl rfl)
theorem dX10_bind_59 : decode cX10_bind 59 = .ok (.aload_n 0, 1) := dk_42 (dk_at dksX10_bind_2 13 rfl rfl)
theorem dX10_bind_60 : decode cX10_bind 60 = .ok (.invokevirtual 305, 3) := dk_182 1 49 (dk_at dksX10_bind_2 14 rfl rfl)
theorem dX10_bind_63 : decode cX10_bind 63 = .ok (.istore 4, 2) := dk_54 4 (dk_at dksX10_bind_2 17 rfl rfl)
theorem dX10_bind_65 : decode cX10_bind 65 = .ok (.aload_n 0, 1) := dk_42 (dk_at dksX10_bind_2 19 rfl rfl)
theorem dX10_bind_66 : decode cX10_bind 66 = .ok (.iload_n 2, 1) := dk_28 (dk_at dksX10_bind_2 20 rfl rfl)
theorem dX10_bind_67 : decode cX10_bind 67 = .ok (.iload 4, 2) := dk_21 4 (dk_at dksX10_bind_2 21 rfl rfl)
theorem dX10_bind_69 : decode cX10_bind 69 = .ok (.iload_n 3, 1) := dk_29 (dk_at dksX10_bind_2 23 rfl rfl)
theorem dX10_bind_70 : decode cX10_bind 70 = .ok (.invokevirtual 309, 3) := dk_182 1 53 (dk_at dksX10_bind_3 0 rfl rfl)
theorem dX10_bind_73 : decode cX10_bind 73 = .ok (.goto (-73), 3) := dk_167 255 183 (dk_at dksX10_bind_3 3 rfl rfl)
theorem dX10_bind_76 : decode cX10_bind 76 = .ok (.return_, 1) := dk_177 (dk_at dksX10_bind_3 6 rfl rfl)
def dkwX10_rank_2 : List UInt8 := [167, 0, 13, 26, 7, 160, 0, 7, 4, 167, 0, 4, 3, 172]
abbrev dktX10_rank_2 : List UInt8 := dkwX10_rank_2 ++ []
def dkwX10_rank_1 : List UInt8 := [161, 0, 7, 7, 167, 0, 31, 26, 5, 160, 0, 7, 6, 167, 0, 22, 26, 6, 160, 0, 7, 5]
abbrev dktX10_rank_1 : List UInt8 := dkwX10_rank_1 ++ dktX10_rank_2
def dkwX10_rank_0 : List UInt8 := [26, 16, 13, 161, 0, 8, 16, 6, 167, 0, 50, 26, 16, 11, 161, 0, 7, 8, 167, 0, 40, 26, 8]
abbrev dktX10_rank_0 : List UInt8 := dkwX10_rank_0 ++ dktX10_rank_1
theorem dksX10_rank_0 : cX10_rank.data.toList.drop 0 = dktX10_rank_0 := by decide +kernel
theorem dksX10_rank_1 : cX10_rank.data.toList.drop 23 = dktX10_rank_1 := dk_seg dksX10_rank_0 23 rfl rfl
theorem dksX10_rank_2 : cX10_rank.data.toList.drop 45 = dktX10_rank_2 := dk_seg dksX10_rank_1 22 rfl rfl
theorem dX10_rank_0 : decode cX10_rank 0 = .ok (.iload_n 0, 1) := dk_26 (dk_at dksX10_rank_0 0 rfl rfl)
theorem dX10_rank_1 : decode cX10_rank 1 = .ok (.bipush 13, 2) := dk_16 13 (dk_at dksX10_rank_0 1 rfl rfl)
theorem dX10_rank_3 : decode cX10_rank 3 = .ok (.if_icmp .lt 8, 3) := dk_161 0 8 (dk_at dksX10_rank_0 3 rfl rfl)
theorem dX10_rank_6 : decode cX10_rank 6 = .ok (.bipush 6, 2) := dk_16 6 (dk_at dksX10_rank_0 6 rfl rfl)
theorem dX10_rank_8 : decode cX10_rank 8 = .ok (.goto 50, 3) := dk_167 0 50 (dk_at dksX10_rank_0 8 rfl rfl)
theorem dX10_rank_11 : decode cX10_rank 11 = .ok (.iload_n 0, 1) := dk_26 (dk_at dksX10_rank_0 11 rfl rfl)
theorem dX10_rank_12 : decode cX10_rank 12 = .ok (.bipush 11, 2) := dk_16 11 (dk_at dksX10_rank_0 12 rfl rfl)
theorem dX10_rank_14 : decode cX10_rank 14 = .ok (.if_icmp .lt 7, 3) := dk_161 0 7 (dk_at dksX10_rank_0 14 rfl rfl)
theorem dX10_rank_17 : decode cX10_rank 17 = .ok (.iconst 5, 1) := dk_8 (dk_at dksX10_rank_0 17 rfl rfl)
theorem dX10_rank_18 : decode cX10_rank 18 = .ok (.goto 40, 3) := dk_167 0 40 (dk_at dksX10_rank_0 18 rfl rfl)
theorem dX10_rank_21 : decode cX10_rank 21 = .ok (.iload_n 0, 1) := dk_26 (dk_at dksX10_rank_0 21 rfl rfl)
theorem dX10_rank_22 : decode cX10_rank 22 = .ok (.iconst 5, 1) := dk_8 (dk_at dksX10_rank_0 22 rfl rfl)
theorem dX10_rank_23 : decode cX10_rank 23 = .ok (.if_icmp .lt 7, 3) := dk_161 0 7 (dk_at dksX10_rank_1 0 rfl rfl)
theorem dX10_rank_26 : decode cX10_rank 26 = .ok (.iconst 4, 1) := dk_7 (dk_at dksX10_rank_1 3 rfl rfl)
theorem dX10_rank_27 : decode cX10_rank 27 = .ok (.goto 31, 3) := dk_167 0 31 (dk_at dksX10_rank_1 4 rfl rfl)
theorem dX10_rank_30 : decode cX10_rank 30 = .ok (.iload_n 0, 1) := dk_26 (dk_at dksX10_rank_1 7 rfl rfl)
theorem dX10_rank_31 : decode cX10_rank 31 = .ok (.iconst 2, 1) := dk_5 (dk_at dksX10_rank_1 8 rfl rfl)
theorem dX10_rank_32 : decode cX10_rank 32 = .ok (.if_icmp .ne 7, 3) := dk_160 0 7 (dk_at dksX10_rank_1 9 rfl rfl)
theorem dX10_rank_35 : decode cX10_rank 35 = .ok (.iconst 3, 1) := dk_6 (dk_at dksX10_rank_1 12 rfl rfl)
theorem dX10_rank_36 : decode cX10_rank 36 = .ok (.goto 22, 3) := dk_167 0 22 (dk_at dksX10_rank_1 13 rfl rfl)
theorem dX10_rank_39 : decode cX10_rank 39 = .ok (.iload_n 0, 1) := dk_26 (dk_at dksX10_rank_1 16 rfl rfl)
theorem dX10_rank_40 : decode cX10_rank 40 = .ok (.iconst 3, 1) := dk_6 (dk_at dksX10_rank_1 17 rfl rfl)
theorem dX10_rank_41 : decode cX10_rank 41 = .ok (.if_icmp .ne 7, 3) := dk_160 0 7 (dk_at dksX10_rank_1 18 rfl rfl)
theorem dX10_rank_44 : decode cX10_rank 44 = .ok (.iconst 2, 1) := dk_5 (dk_at dksX10_rank_1 21 rfl rfl)
theorem dX10_rank_45 : decode cX10_rank 45 = .ok (.goto 13, 3) := dk_167 0 13 (dk_at dksX10_rank_2 0 rfl rfl)
theorem dX10_rank_48 : decode cX10_rank 48 = .ok (.iload_n 0, 1) := dk_26 (dk_at dksX10_rank_2 3 rfl rfl)
theorem dX10_rank_49 : decode cX10_rank 49 = .ok (.iconst 4, 1) := dk_7 (dk_at dksX10_rank_2 4 rfl rfl)
theorem dX10_rank_50 : decode cX10_rank 50 = .ok (.if_icmp .ne 7, 3) := dk_160 0 7 (dk_at dksX10_rank_2 5 rfl rfl)
theorem dX10_rank_53 : decode cX10_rank 53 = .ok (.iconst 1, 1) := dk_4 (dk_at dksX10_rank_2 8 rfl rfl)
theorem dX10_rank_54 : decode cX10_rank 54 = .ok (.goto 4, 3) := dk_167 0 4 (dk_at dksX10_rank_2 9 rfl rfl)
theorem dX10_rank_57 : decode cX10_rank 57 = .ok (.iconst 0, 1) := dk_3 (dk_at dksX10_rank_2 12 rfl rfl)
theorem dX10_rank_58 : decode cX10_rank 58 = .ok (.ireturn, 1) := dk_172 (dk_at dksX10_rank_2 13 rfl rfl)
def dkwX10_dropHeld_0 : List UInt8 := [42, 89, 180, 1, 39, 4, 100, 181, 1, 39, 42, 180, 0, 90, 42, 180, 1, 39, 46, 172]
abbrev dktX10_dropHeld_0 : List UInt8 := dkwX10_dropHeld_0 ++ []
theorem dksX10_dropHeld_0 : cX10_dropHeld.data.toList.drop 0 = dktX10_dropHeld_0 := by decide +kernel
theorem dX10_dropHeld_0 : decode cX10_dropHeld 0 = .ok (.aload_n 0, 1) := dk_42 (dk_at dksX10_dropHeld_0 0 rfl rfl)
theorem dX10_dropHeld_1 : decode cX10_dropHeld 1 = .ok (.dup, 1) := dk_89 (dk_at dksX10_dropHeld_0 1 rfl rfl)
theorem dX10_dropHeld_2 : decode cX10_dropHeld 2 = .ok (.getfield 295, 3) := dk_180 1 39 (dk_at dksX10_dropHeld_0 2 rfl rfl)
theorem dX10_dropHeld_5 : decode cX10_dropHeld 5 = .ok (.iconst 1, 1) := dk_4 (dk_at dksX10_dropHeld_0 5 rfl rfl)
theorem dX10_dropHeld_6 : decode cX10_dropHeld 6 = .ok (.isub, 1) := dk_100 (dk_at dksX10_dropHeld_0 6 rfl rfl)
theorem dX10_dropHeld_7 : decode cX10_dropHeld 7 = .ok (.putfield 295, 3) := dk_181 1 39 (dk_at dksX10_dropHeld_0 7 rfl rfl)
theorem dX10_dropHeld_10 : decode cX10_dropHeld 10 = .ok (.aload_n 0, 1) := dk_42 (dk_at dksX10_dropHeld_0 10 rfl rfl)
theorem dX10_dropHeld_11 : decode cX10_dropHeld 11 = .ok (.getfield 90, 3) := dk_180 0 90 (dk_at dksX10_dropHeld_0 11 rfl rfl)
theorem dX10_dropHeld_14 : decode cX10_dropHeld 14 = .ok (.aload_n 0, 1) := dk_42 (dk_at dksX10_dropHeld_0 14 rfl rfl)
theorem dX10_dropHeld_15 : decode cX10_dropHeld 15 = .ok (.getfield 295, 3) := dk_180 1 39 (dk_at dksX10_dropHeld_0 15 rfl rfl)
theorem dX10_dropHeld_18 : decode cX10_dropHeld 18 = .ok (.iaload, 1) := dk_46 (dk_at dksX10_dropHeld_0 18 rfl rfl)
theorem dX10_dropHeld_19 : decode cX10_dropHeld 19 = .ok (.ireturn, 1) := dk_172 (dk_at dksX10_dropHeld_0 19 rfl rfl)
def dkwX10_fault_1 : List UInt8 := [180, 0, 16, 167, 0, 4, 2, 172]
abbrev dktX10_fault_1 : List UInt8 := dkwX10_fault_1 ++ []
def dkwX10_fault_0 : List UInt8 := [42, 3, 181, 0, 148, 27, 154, 0, 10, 42, 180, 0, 154, 167, 0, 16, 27, 4, 160, 0, 10, 42]
abbrev dktX10_fault_0 : List UInt8 := dkwX10_fault_0 ++ dktX10_fault_1
theorem dksX10_fault_0 : cX10_fault.data.toList.drop 0 = dktX10_fault_0 := by decide +kernel
theorem dksX10_fault_1 : cX10_fault.data.toList.drop 22 = dktX10_fault_1 := dk_seg dksX10_fault_0 22 rfl rfl
theorem dX10_fault_0 : decode cX10_fault 0 = .ok (.aload_n 0, 1) := dk_42 (dk_at dksX10_fault_0 0 rfl rfl)
theorem dX10_fault_1 : decode cX10_fault 1 = .ok (.iconst 0, 1) := dk_3 (dk_at dksX10_fault_0 1 rfl rfl)
theorem dX10_fault_2 : decode cX10_fault 2 = .ok (.putfield 148, 3) := dk_181 0 148 (dk_at dksX10_fault_0 2 rfl rfl)
theorem dX10_fault_5 : decode cX10_fault 5 = .ok (.iload_n 1, 1) := dk_27 (dk_at dksX10_fault_0 5 rfl rfl)
theorem dX10_fault_6 : decode cX10_fault 6 = .ok (.ifCond .ne 10, 3) := dk_154 0 10 (dk_at dksX10_fault_0 6 rfl rfl)
theorem dX10_fault_9 : decode cX10_fault 9 = .ok (.aload_n 0, 1) := dk_42 (dk_at dksX10_fault_0 9 rfl rfl)
theorem dX10_fault_10 : decode cX10_fault 10 = .ok (.getfield 154, 3) := dk_180 0 154 (dk_at dksX10_fault_0 10 rfl rfl)
theorem dX10_fault_13 : decode cX10_fault 13 = .ok (.goto 16, 3) := dk_167 0 16 (dk_at dksX10_fault_0 13 rfl rfl)
theorem dX10_fault_16 : decode cX10_fault 16 = .ok (.iload_n 1, 1) := dk_27 (dk_at dksX10_fault_0 16 rfl rfl)
theorem dX10_fault_17 : decode cX10_fault 17 = .ok (.iconst 1, 1) := dk_4 (dk_at dksX10_fault_0 17 rfl rfl)
theorem dX10_fault_18 : decode cX10_fault 18 = .ok (.if_icmp .ne 10, 3) := dk_160 0 10 (dk_at dksX10_fault_0 18 rfl rfl)
theorem dX10_fault_21 : decode cX10_fault 21 = .ok (.aload_n 0, 1) := dk_42 (dk_at dksX10_fault_0 21 rfl rfl)
theorem dX10_fault_22 : decode cX10_fault 22 = .ok (.getfield 16, 3) := dk_180 0 16 (dk_at dksX10_fault_1 0 rfl rfl)
theorem dX10_fault_25 : decode cX10_fault 25 = .ok (.goto 4, 3) := dk_167 0 4 (dk_at dksX10_fault_1 3 rfl rfl)
theorem dX10_fault_28 : decode cX10_fault 28 = .ok (.iconst (-1), 1) := dk_2 (dk_at dksX10_fault_1 6 rfl rfl)
theorem dX10_fault_29 : decode cX10_fault 29 = .ok (.ireturn, 1) := dk_172 (dk_at dksX10_fault_1 7 rfl rfl)
def dkwX10_named_3 : List UInt8 := [184, 0, 250, 172, 42, 180, 0, 45, 3, 42, 180, 0, 234, 28, 184, 0, 250, 172, 2, 172]
abbrev dktX10_named_3 : List UInt8 := dkwX10_named_3 ++ []
def dkwX10_named_2 : List UInt8 := [42, 180, 0, 27, 3, 42, 180, 0, 228, 28, 184, 0, 250, 172, 42, 180, 0, 30, 3, 42, 180, 0, 231, 28]
abbrev dktX10_named_2 : List UInt8 := dkwX10_named_2 ++ dktX10_named_3
def dkwX10_named_1 : List UInt8 := [170, 0, 0, 0, 0, 68, 0, 0, 0, 0, 0, 0, 0, 2, 0, 0, 0, 26, 0, 0, 0, 40, 0, 0, 0, 54]
abbrev dktX10_named_1 : List UInt8 := dkwX10_named_1 ++ dktX10_named_2
def dkwX10_named_0 : List UInt8 := [42, 3, 181, 0, 148, 27]
abbrev dktX10_named_0 : List UInt8 := dkwX10_named_0 ++ dktX10_named_1
theorem dksX10_named_0 : cX10_named.data.toList.drop 0 = dktX10_named_0 := by decide +kernel
theorem dksX10_named_1 : cX10_named.data.toList.drop 6 = dktX10_named_1 := dk_seg dksX10_named_0 6 rfl rfl
theorem dksX10_named_2 : cX10_named.data.toList.drop 32 = dktX10_named_2 := dk_seg dksX10_named_1 26 rfl rfl
theorem dksX10_named_3 : cX10_named.data.toList.drop 56 = dktX10_named_3 := dk_seg dksX10_named_2 24 rfl rfl
theorem dX10_named_0 : decode cX10_named 0 = .ok (.aload_n 0, 1) := dk_42 (dk_at dksX10_named_0 0 rfl rfl)
theorem dX10_named_1 : decode cX10_named 1 = .ok (.iconst 0, 1) := dk_3 (dk_at dksX10_named_0 1 rfl rfl)
theorem dX10_named_2 : decode cX10_named 2 = .ok (.putfield 148, 3) := dk_181 0 148 (dk_at dksX10_named_0 2 rfl rfl)
theorem dX10_named_5 : decode cX10_named 5 = .ok (.iload_n 1, 1) := dk_27 (dk_at dksX10_named_0 5 rfl rfl)
theorem dX10_named_6 : decode cX10_named 6 = .ok (.tableswitch 68 0 2 #[26, 40, 54], 26) := by decide +kernel
theorem dX10_named_32 : decode cX10_named 32 = .ok (.aload_n 0, 1) := dk_42 (dk_at dksX10_named_2 0 rfl rfl)
theorem dX10_named_33 : decode cX10_named 33 = .ok (.getfield 27, 3) := dk_180 0 27 (dk_at dksX10_named_2 1 rfl rfl)
theorem dX10_named_36 : decode cX10_named 36 = .ok (.iconst 0, 1) := dk_3 (dk_at dksX10_named_2 4 rfl rfl)
theorem dX10_named_37 : decode cX10_named 37 = .ok (.aload_n 0, 1) := dk_42 (dk_at dksX10_named_2 5 rfl rfl)
theorem dX10_named_38 : decode cX10_named 38 = .ok (.getfield 228, 3) := dk_180 0 228 (dk_at dksX10_named_2 6 rfl rfl)
theorem dX10_named_41 : decode cX10_named 41 = .ok (.iload_n 2, 1) := dk_28 (dk_at dksX10_named_2 9 rfl rfl)
theorem dX10_named_42 : decode cX10_named 42 = .ok (.invokestatic 250, 3) := dk_184 0 250 (dk_at dksX10_named_2 10 rfl rfl)
theorem dX10_named_45 : decode cX10_named 45 = .ok (.ireturn, 1) := dk_172 (dk_at dksX10_named_2 13 rfl rfl)
theorem dX10_named_46 : decode cX10_named 46 = .ok (.aload_n 0, 1) := dk_42 (dk_at dksX10_named_2 14 rfl rfl)
theorem dX10_named_47 : decode cX10_named 47 = .ok (.getfield 30, 3) := dk_180 0 30 (dk_at dksX10_named_2 15 rfl rfl)
theorem dX10_named_50 : decode cX10_named 50 = .ok (.iconst 0, 1) := dk_3 (dk_at dksX10_named_2 18 rfl rfl)
theorem dX10_named_51 : decode cX10_named 51 = .ok (.aload_n 0, 1) := dk_42 (dk_at dksX10_named_2 19 rfl rfl)
theorem dX10_named_52 : decode cX10_named 52 = .ok (.getfield 231, 3) := dk_180 0 231 (dk_at dksX10_named_2 20 rfl rfl)
theorem dX10_named_55 : decode cX10_named 55 = .ok (.iload_n 2, 1) := dk_28 (dk_at dksX10_named_2 23 rfl rfl)
theorem dX10_named_56 : decode cX10_named 56 = .ok (.invokestatic 250, 3) := dk_184 0 250 (dk_at dksX10_named_3 0 rfl rfl)
theorem dX10_named_59 : decode cX10_named 59 = .ok (.ireturn, 1) := dk_172 (dk_at dksX10_named_3 3 rfl rfl)
theorem dX10_named_60 : decode cX10_named 60 = .ok (.aload_n 0, 1) := dk_42 (dk_at dksX10_named_3 4 rfl rfl)
theorem dX10_named_61 : decode cX10_named 61 = .ok (.getfield 45, 3) := dk_180 0 45 (dk_at dksX10_named_3 5 rfl rfl)
theorem dX10_named_64 : decode cX10_named 64 = .ok (.iconst 0, 1) := dk_3 (dk_at dksX10_named_3 8 rfl rfl)
theorem dX10_named_65 : decode cX10_named 65 = .ok (.aload_n 0, 1) := dk_42 (dk_at dksX10_named_3 9 rfl rfl)
theorem dX10_named_66 : decode cX10_named 66 = .ok (.getfield 234, 3) := dk_180 0 234 (dk_at dksX10_named_3 10 rfl rfl)
theorem dX10_named_69 : decode cX10_named 69 = .ok (.iload_n 2, 1) := dk_28 (dk_at dksX10_named_3 13 rfl rfl)
theorem dX10_named_70 : decode cX10_named 70 = .ok (.invokestatic 250, 3) := dk_184 0 250 (dk_at dksX10_named_3 14 rfl rfl)
theorem dX10_named_73 : decode cX10_named 73 = .ok (.ireturn, 1) := dk_172 (dk_at dksX10_named_3 17 rfl rfl)
theorem dX10_named_74 : decode cX10_named 74 = .ok (.iconst (-1), 1) := dk_2 (dk_at dksX10_named_3 18 rfl rfl)
theorem dX10_named_75 : decode cX10_named 75 = .ok (.ireturn, 1) := dk_172 (dk_at dksX10_named_3 19 rfl rfl)
def dkwX10_person_4 : List UInt8 := [182, 1, 190, 172]
abbrev dktX10_person_4 : List UInt8 := dkwX10_person_4 ++ []
def dkwX10_person_3 : List UInt8 := [180, 0, 100, 27, 46, 172, 42, 180, 0, 103, 27, 46, 172, 42, 180, 0, 109, 27, 46, 172, 42, 5]
abbrev dktX10_person_3 : List UInt8 := dkwX10_person_3 ++ dktX10_person_4
def dkwX10_person_2 : List UInt8 := [42, 180, 0, 33, 27, 46, 172, 42, 180, 0, 36, 27, 46, 172, 42, 180, 0, 106, 27, 46, 172, 42]
abbrev dktX10_person_2 : List UInt8 := dkwX10_person_2 ++ dktX10_person_3
def dkwX10_person_1 : List UInt8 := [170, 0, 0, 0, 0, 0, 0, 82, 0, 0, 0, 0, 0, 0, 0, 5, 0, 0, 0, 40, 0, 0, 0, 47, 0, 0, 0, 54, 0, 0, 0, 61, 0, 0, 0, 68, 0, 0, 0, 75]
abbrev dktX10_person_1 : List UInt8 := dkwX10_person_1 ++ dktX10_person_2
def dkwX10_person_0 : List UInt8 := [42, 3, 181, 0, 148, 42, 27, 182, 1, 187, 154, 0, 9, 42, 4, 182, 1, 190, 172, 28]
abbrev dktX10_person_0 : List UInt8 := dkwX10_person_0 ++ dktX10_person_1
theorem dksX10_person_0 : cX10_person.data.toList.drop 0 = dktX10_person_0 := by decide +kernel
theorem dksX10_person_1 : cX10_person.data.toList.drop 20 = dktX10_person_1 := dk_seg dksX10_person_0 20 rfl rfl
theorem dksX10_person_2 : cX10_person.data.toList.drop 60 = dktX10_person_2 := dk_seg dksX10_person_1 40 rfl rfl
theorem dksX10_person_3 : cX10_person.data.toList.drop 82 = dktX10_person_3 := dk_seg dksX10_person_2 22 rfl rfl
theorem dksX10_person_4 : cX10_person.data.toList.drop 104 = dktX10_person_4 := dk_seg dksX10_person_3 22 rfl rfl
theorem dX10_person_0 : decode cX10_person 0 = .ok (.aload_n 0, 1) := dk_42 (dk_at dksX10_person_0 0 rfl rfl)
theorem dX10_person_1 : decode cX10_person 1 = .ok (.iconst 0, 1) := dk_3 (dk_at dksX10_person_0 1 rfl rfl)
theorem dX10_person_2 : decode cX10_person 2 = .ok (.putfield 148, 3) := dk_181 0 148 (dk_at dksX10_person_0 2 rfl rfl)
theorem dX10_person_5 : decode cX10_person 5 = .ok (.aload_n 0, 1) := dk_42 (dk_at dksX10_person_0 5 rfl rfl)
theorem dX10_person_6 : decode cX10_person 6 = .ok (.iload_n 1, 1) := dk_27 (dk_at dksX10_person_0 6 rfl rfl)
theorem dX10_person_7 : decode cX10_person 7 = .ok (.invokevirtual 443, 3) := dk_182 1 187 (dk_at dksX10_person_0 7 rfl rfl)
theorem dX10_person_10 : decode cX10_person 10 = .ok (.ifCond .ne 9, 3) := dk_154 0 9 (dk_at dksX10_person_0 10 rfl rfl)
theorem dX10_person_13 : decode cX10_person 13 = .ok (.aload_n 0, 1) := dk_42 (dk_at dksX10_person_0 13 rfl rfl)
theorem dX10_person_14 : decode cX10_person 14 = .ok (.iconst 1, 1) := dk_4 (dk_at dksX10_person_0 14 rfl rfl)
theorem dX10_person_15 : decode cX10_person 15 = .ok (.invokevirtual 446, 3) := dk_182 1 190 (dk_at dksX10_person_0 15 rfl rfl)
theorem dX10_person_18 : decode cX10_person 18 = .ok (.ireturn, 1) := dk_172 (dk_at dksX10_person_0 18 rfl rfl)
theorem dX10_person_19 : decode cX10_person 19 = .ok (.iload_n 2, 1) := dk_28 (dk_at dksX10_person_0 19 rfl rfl)
theorem dX10_person_20 : decode cX10_person 20 = .ok (.tableswitch 82 0 5 #[40, 47, 54, 61, 68, 75], 40) := by decide +kernel
theorem dX10_person_60 : decode cX10_person 60 = .ok (.aload_n 0, 1) := dk_42 (dk_at dksX10_person_2 0 rfl rfl)
theorem dX10_person_61 : decode cX10_person 61 = .ok (.getfield 33, 3) := dk_180 0 33 (dk_at dksX10_person_2 1 rfl rfl)
theorem dX10_person_64 : decode cX10_person 64 = .ok (.iload_n 1, 1) := dk_27 (dk_at dksX10_person_2 4 rfl rfl)
theorem dX10_person_65 : decode cX10_person 65 = .ok (.iaload, 1) := dk_46 (dk_at dksX10_person_2 5 rfl rfl)
theorem dX10_person_66 : decode cX10_person 66 = .ok (.ireturn, 1) := dk_172 (dk_at dksX10_person_2 6 rfl rfl)
theorem dX10_person_67 : decode cX10_person 67 = .ok (.aload_n 0, 1) := dk_42 (dk_at dksX10_person_2 7 rfl rfl)
theorem dX10_person_68 : decode cX10_person 68 = .ok (.getfield 36, 3) := dk_180 0 36 (dk_at dksX10_person_2 8 rfl rfl)
theorem dX10_person_71 : decode cX10_person 71 = .ok (.iload_n 1, 1) := dk_27 (dk_at dksX10_person_2 11 rfl rfl)
theorem dX10_person_72 : decode cX10_person 72 = .ok (.iaload, 1) := dk_46 (dk_at dksX10_person_2 12 rfl rfl)
theorem dX10_person_73 : decode cX10_person 73 = .ok (.ireturn, 1) := dk_172 (dk_at dksX10_person_2 13 rfl rfl)
theorem dX10_person_74 : decode cX10_person 74 = .ok (.aload_n 0, 1) := dk_42 (dk_at dksX10_person_2 14 rfl rfl)
theorem dX10_person_75 : decode cX10_person 75 = .ok (.getfield 106, 3) := dk_180 0 106 (dk_at dksX10_person_2 15 rfl rfl)
theorem dX10_person_78 : decode cX10_person 78 = .ok (.iload_n 1, 1) := dk_27 (dk_at dksX10_person_2 18 rfl rfl)
theorem dX10_person_79 : decode cX10_person 79 = .ok (.iaload, 1) := dk_46 (dk_at dksX10_person_2 19 rfl rfl)
theorem dX10_person_80 : decode cX10_person 80 = .ok (.ireturn, 1) := dk_172 (dk_at dksX10_person_2 20 rfl rfl)
theorem dX10_person_81 : decode cX10_person 81 = .ok (.aload_n 0, 1) := dk_42 (dk_at dksX10_person_2 21 rfl rfl)
theorem dX10_person_82 : decode cX10_person 82 = .ok (.getfield 100, 3) := dk_180 0 100 (dk_at dksX10_person_3 0 rfl rfl)
theorem dX10_person_85 : decode cX10_person 85 = .ok (.iload_n 1, 1) := dk_27 (dk_at dksX10_person_3 3 rfl rfl)
theorem dX10_person_86 : decode cX10_person 86 = .ok (.iaload, 1) := dk_46 (dk_at dksX10_person_3 4 rfl rfl)
theorem dX10_person_87 : decode cX10_person 87 = .ok (.ireturn, 1) := dk_172 (dk_at dksX10_person_3 5 rfl rfl)
theorem dX10_person_88 : decode cX10_person 88 = .ok (.aload_n 0, 1) := dk_42 (dk_at dksX10_person_3 6 rfl rfl)
theorem dX10_person_89 : decode cX10_person 89 = .ok (.getfield 103, 3) := dk_180 0 103 (dk_at dksX10_person_3 7 rfl rfl)
theorem dX10_person_92 : decode cX10_person 92 = .ok (.iload_n 1, 1) := dk_27 (dk_at dksX10_person_3 10 rfl rfl)
theorem dX10_person_93 : decode cX10_person 93 = .ok (.iaload, 1) := dk_46 (dk_at dksX10_person_3 11 rfl rfl)
theorem dX10_person_94 : decode cX10_person 94 = .ok (.ireturn, 1) := dk_172 (dk_at dksX10_person_3 12 rfl rfl)
theorem dX10_person_95 : decode cX10_person 95 = .ok (.aload_n 0, 1) := dk_42 (dk_at dksX10_person_3 13 rfl rfl)
theorem dX10_person_96 : decode cX10_person 96 = .ok (.getfield 109, 3) := dk_180 0 109 (dk_at dksX10_person_3 14 rfl rfl)
theorem dX10_person_99 : decode cX10_person 99 = .ok (.iload_n 1, 1) := dk_27 (dk_at dksX10_person_3 17 rfl rfl)
theorem dX10_person_100 : decode cX10_person 100 = .ok (.iaload, 1) := dk_46 (dk_at dksX10_person_3 18 rfl rfl)
theorem dX10_person_101 : decode cX10_person 101 = .ok (.ireturn, 1) := dk_172 (dk_at dksX10_person_3 19 rfl rfl)
theorem dX10_person_102 : decode cX10_person 102 = .ok (.aload_n 0, 1) := dk_42 (dk_at dksX10_person_3 20 rfl rfl)
theorem dX10_person_103 : decode cX10_person 103 = .ok (.iconst 2, 1) := dk_5 (dk_at dksX10_person_3 21 rfl rfl)
theorem dX10_person_104 : decode cX10_person 104 = .ok (.invokevirtual 446, 3) := dk_182 1 190 (dk_at dksX10_person_4 0 rfl rfl)
theorem dX10_person_107 : decode cX10_person 107 = .ok (.ireturn, 1) := dk_172 (dk_at dksX10_person_4 3 rfl rfl)
def dkwX10_isPerson_0 : List UInt8 := [27, 155, 0, 15, 27, 42, 180, 0, 231, 162, 0, 7, 4, 167, 0, 4, 3, 172]
abbrev dktX10_isPerson_0 : List UInt8 := dkwX10_isPerson_0 ++ []
theorem dksX10_isPerson_0 : cX10_isPerson.data.toList.drop 0 = dktX10_isPerson_0 := by decide +kernel
theorem dX10_isPerson_0 : decode cX10_isPerson 0 = .ok (.iload_n 1, 1) := dk_27 (dk_at dksX10_isPerson_0 0 rfl rfl)
theorem dX10_isPerson_1 : decode cX10_isPerson 1 = .ok (.ifCond .lt 15, 3) := dk_155 0 15 (dk_at dksX10_isPerson_0 1 rfl rfl)
theorem dX10_isPerson_4 : decode cX10_isPerson 4 = .ok (.iload_n 1, 1) := dk_27 (dk_at dksX10_isPerson_0 4 rfl rfl)
theorem dX10_isPerson_5 : decode cX10_isPerson 5 = .ok (.aload_n 0, 1) := dk_42 (dk_at dksX10_isPerson_0 5 rfl rfl)
theorem dX10_isPerson_6 : decode cX10_isPerson 6 = .ok (.getfield 231, 3) := dk_180 0 231 (dk_at dksX10_isPerson_0 6 rfl rfl)
theorem dX10_isPerson_9 : decode cX10_isPerson 9 = .ok (.if_icmp .ge 7, 3) := dk_162 0 7 (dk_at dksX10_isPerson_0 9 rfl rfl)
theorem dX10_isPerson_12 : decode cX10_isPerson 12 = .ok (.iconst 1, 1) := dk_4 (dk_at dksX10_isPerson_0 12 rfl rfl)
theorem dX10_isPerson_13 : decode cX10_isPerson 13 = .ok (.goto 4, 3) := dk_167 0 4 (dk_at dksX10_isPerson_0 13 rfl rfl)
theorem dX10_isPerson_16 : decode cX10_isPerson 16 = .ok (.iconst 0, 1) := dk_3 (dk_at dksX10_isPerson_0 16 rfl rfl)
theorem dX10_isPerson_17 : decode cX10_isPerson 17 = .ok (.ireturn, 1) := dk_172 (dk_at dksX10_isPerson_0 17 rfl rfl)
def dkwX10_fails_0 : List UInt8 := [42, 27, 181, 0, 148, 3, 172]
abbrev dktX10_fails_0 : List UInt8 := dkwX10_fails_0 ++ []
theorem dksX10_fails_0 : cX10_fails.data.toList.drop 0 = dktX10_fails_0 := by decide +kernel
theorem dX10_fails_0 : decode cX10_fails 0 = .ok (.aload_n 0, 1) := dk_42 (dk_at dksX10_fails_0 0 rfl rfl)
theorem dX10_fails_1 : decode cX10_fails 1 = .ok (.iload_n 1, 1) := dk_27 (dk_at dksX10_fails_0 1 rfl rfl)
theorem dX10_fails_2 : decode cX10_fails 2 = .ok (.putfield 148, 3) := dk_181 0 148 (dk_at dksX10_fails_0 2 rfl rfl)
theorem dX10_fails_5 : decode cX10_fails 5 = .ok (.iconst 0, 1) := dk_3 (dk_at dksX10_fails_0 5 rfl rfl)
theorem dX10_fails_6 : decode cX10_fails 6 = .ok (.ireturn, 1) := dk_172 (dk_at dksX10_fails_0 6 rfl rfl)
def dkwX10_question_3 : List UInt8 := [16, 254, 172]
abbrev dktX10_question_3 : List UInt8 := dkwX10_question_3 ++ []
def dkwX10_question_2 : List UInt8 := [42, 180, 0, 54, 27, 46, 167, 0, 19, 28, 6, 160, 0, 12, 42, 180, 0, 57, 27, 46, 167, 0, 5]
abbrev dktX10_question_2 : List UInt8 := dkwX10_question_2 ++ dktX10_question_3
def dkwX10_question_1 : List UInt8 := [27, 46, 167, 0, 47, 28, 4, 160, 0, 12, 42, 180, 0, 51, 27, 46, 167, 0, 33, 28, 5, 160, 0, 12]
abbrev dktX10_question_1 : List UInt8 := dkwX10_question_1 ++ dktX10_question_2
def dkwX10_question_0 : List UInt8 := [42, 3, 181, 0, 148, 42, 27, 182, 1, 193, 154, 0, 6, 16, 254, 172, 28, 154, 0, 12, 42, 180, 0, 48]
abbrev dktX10_question_0 : List UInt8 := dkwX10_question_0 ++ dktX10_question_1
theorem dksX10_question_0 : cX10_question.data.toList.drop 0 = dktX10_question_0 := by decide +kernel
theorem dksX10_question_1 : cX10_question.data.toList.drop 24 = dktX10_question_1 := dk_seg dksX10_question_0 24 rfl rfl
theorem dksX10_question_2 : cX10_question.data.toList.drop 48 = dktX10_question_2 := dk_seg dksX10_question_1 24 rfl rfl
theorem dksX10_question_3 : cX10_question.data.toList.drop 71 = dktX10_question_3 := dk_seg dksX10_question_2 23 rfl rfl
theorem dX10_question_0 : decode cX10_question 0 = .ok (.aload_n 0, 1) := dk_42 (dk_at dksX10_question_0 0 rfl rfl)
theorem dX10_question_1 : decode cX10_question 1 = .ok (.iconst 0, 1) := dk_3 (dk_at dksX10_question_0 1 rfl rfl)
theorem dX10_question_2 : decode cX10_question 2 = .ok (.putfield 148, 3) := dk_181 0 148 (dk_at dksX10_question_0 2 rfl rfl)
theorem dX10_question_5 : decode cX10_question 5 = .ok (.aload_n 0, 1) := dk_42 (dk_at dksX10_question_0 5 rfl rfl)
theorem dX10_question_6 : decode cX10_question 6 = .ok (.iload_n 1, 1) := dk_27 (dk_at dksX10_question_0 6 rfl rfl)
theorem dX10_question_7 : decode cX10_question 7 = .ok (.invokevirtual 449, 3) := dk_182 1 193 (dk_at dksX10_question_0 7 rfl rfl)
theorem dX10_question_10 : decode cX10_question 10 = .ok (.ifCond .ne 6, 3) := dk_154 0 6 (dk_at dksX10_question_0 10 rfl rfl)
theorem dX10_question_13 : decode cX10_question 13 = .ok (.bipush (-2), 2) := dk_16 254 (dk_at dksX10_question_0 13 rfl rfl)
theorem dX10_question_15 : decode cX10_question 15 = .ok (.ireturn, 1) := dk_172 (dk_at dksX10_question_0 15 rfl rfl)
theorem dX10_question_16 : decode cX10_question 16 = .ok (.iload_n 2, 1) := dk_28 (dk_at dksX10_question_0 16 rfl rfl)
theorem dX10_question_17 : decode cX10_question 17 = .ok (.ifCond .ne 12, 3) := dk_154 0 12 (dk_at dksX10_question_0 17 rfl rfl)
theorem dX10_question_20 : decode cX10_question 20 = .ok (.aload_n 0, 1) := dk_42 (dk_at dksX10_question_0 20 rfl rfl)
theorem dX10_question_21 : decode cX10_question 21 = .ok (.getfield 48, 3) := dk_180 0 48 (dk_at dksX10_question_0 21 rfl rfl)
theorem dX10_question_24 : decode cX10_question 24 = .ok (.iload_n 1, 1) := dk_27 (dk_at dksX10_question_1 0 rfl rfl)
theorem dX10_question_25 : decode cX10_question 25 = .ok (.iaload, 1) := dk_46 (dk_at dksX10_question_1 1 rfl rfl)
theorem dX10_question_26 : decode cX10_question 26 = .ok (.goto 47, 3) := dk_167 0 47 (dk_at dksX10_question_1 2 rfl rfl)
theorem dX10_question_29 : decode cX10_question 29 = .ok (.iload_n 2, 1) := dk_28 (dk_at dksX10_question_1 5 rfl rfl)
theorem dX10_question_30 : decode cX10_question 30 = .ok (.iconst 1, 1) := dk_4 (dk_at dksX10_question_1 6 rfl rfl)
theorem dX10_question_31 : decode cX10_question 31 = .ok (.if_icmp .ne 12, 3) := dk_160 0 12 (dk_at dksX10_question_1 7 rfl rfl)
theorem dX10_question_34 : decode cX10_question 34 = .ok (.aload_n 0, 1) := dk_42 (dk_at dksX10_question_1 10 rfl rfl)
theorem dX10_question_35 : decode cX10_question 35 = .ok (.getfield 51, 3) := dk_180 0 51 (dk_at dksX10_question_1 11 rfl rfl)
theorem dX10_question_38 : decode cX10_question 38 = .ok (.iload_n 1, 1) := dk_27 (dk_at dksX10_question_1 14 rfl rfl)
theorem dX10_question_39 : decode cX10_question 39 = .ok (.iaload, 1) := dk_46 (dk_at dksX10_question_1 15 rfl rfl)
theorem dX10_question_40 : decode cX10_question 40 = .ok (.goto 33, 3) := dk_167 0 33 (dk_at dksX10_question_1 16 rfl rfl)
theorem dX10_question_43 : decode cX10_question 43 = .ok (.iload_n 2, 1) := dk_28 (dk_at dksX10_question_1 19 rfl rfl)
theorem dX10_question_44 : decode cX10_question 44 = .ok (.iconst 2, 1) := dk_5 (dk_at dksX10_question_1 20 rfl rfl)
theorem dX10_question_45 : decode cX10_question 45 = .ok (.if_icmp .ne 12, 3) := dk_160 0 12 (dk_at dksX10_question_1 21 rfl rfl)
theorem dX10_question_48 : decode cX10_question 48 = .ok (.aload_n 0, 1) := dk_42 (dk_at dksX10_question_2 0 rfl rfl)
theorem dX10_question_49 : decode cX10_question 49 = .ok (.getfield 54, 3) := dk_180 0 54 (dk_at dksX10_question_2 1 rfl rfl)
theorem dX10_question_52 : decode cX10_question 52 = .ok (.iload_n 1, 1) := dk_27 (dk_at dksX10_question_2 4 rfl rfl)
theorem dX10_question_53 : decode cX10_question 53 = .ok (.iaload, 1) := dk_46 (dk_at dksX10_question_2 5 rfl rfl)
theorem dX10_question_54 : decode cX10_question 54 = .ok (.goto 19, 3) := dk_167 0 19 (dk_at dksX10_question_2 6 rfl rfl)
theorem dX10_question_57 : decode cX10_question 57 = .ok (.iload_n 2, 1) := dk_28 (dk_at dksX10_question_2 9 rfl rfl)
theorem dX10_question_58 : decode cX10_question 58 = .ok (.iconst 3, 1) := dk_6 (dk_at dksX10_question_2 10 rfl rfl)
theorem dX10_question_59 : decode cX10_question 59 = .ok (.if_icmp .ne 12, 3) := dk_160 0 12 (dk_at dksX10_question_2 11 rfl rfl)
theorem dX10_question_62 : decode cX10_question 62 = .ok (.aload_n 0, 1) := dk_42 (dk_at dksX10_question_2 14 rfl rfl)
theorem dX10_question_63 : decode cX10_question 63 = .ok (.getfield 57, 3) := dk_180 0 57 (dk_at dksX10_question_2 15 rfl rfl)
theorem dX10_question_66 : decode cX10_question 66 = .ok (.iload_n 1, 1) := dk_27 (dk_at dksX10_question_2 18 rfl rfl)
theorem dX10_question_67 : decode cX10_question 67 = .ok (.iaload, 1) := dk_46 (dk_at dksX10_question_2 19 rfl rfl)
theorem dX10_question_68 : decode cX10_question 68 = .ok (.goto 5, 3) := dk_167 0 5 (dk_at dksX10_question_2 20 rfl rfl)
theorem dX10_question_71 : decode cX10_question 71 = .ok (.bipush (-2), 2) := dk_16 254 (dk_at dksX10_question_3 0 rfl rfl)
theorem dX10_question_73 : decode cX10_question 73 = .ok (.ireturn, 1) := dk_172 (dk_at dksX10_question_3 2 rfl rfl)
def dkwX10_isQuestion_0 : List UInt8 := [27, 155, 0, 15, 27, 42, 180, 0, 234, 162, 0, 7, 4, 167, 0, 4, 3, 172]
abbrev dktX10_isQuestion_0 : List UInt8 := dkwX10_isQuestion_0 ++ []
theorem dksX10_isQuestion_0 : cX10_isQuestion.data.toList.drop 0 = dktX10_isQuestion_0 := by decide +kernel
theorem dX10_isQuestion_0 : decode cX10_isQuestion 0 = .ok (.iload_n 1, 1) := dk_27 (dk_at dksX10_isQuestion_0 0 rfl rfl)
theorem dX10_isQuestion_1 : decode cX10_isQuestion 1 = .ok (.ifCond .lt 15, 3) := dk_155 0 15 (dk_at dksX10_isQuestion_0 1 rfl rfl)
theorem dX10_isQuestion_4 : decode cX10_isQuestion 4 = .ok (.iload_n 1, 1) := dk_27 (dk_at dksX10_isQuestion_0 4 rfl rfl)
theorem dX10_isQuestion_5 : decode cX10_isQuestion 5 = .ok (.aload_n 0, 1) := dk_42 (dk_at dksX10_isQuestion_0 5 rfl rfl)
theorem dX10_isQuestion_6 : decode cX10_isQuestion 6 = .ok (.getfield 234, 3) := dk_180 0 234 (dk_at dksX10_isQuestion_0 6 rfl rfl)
theorem dX10_isQuestion_9 : decode cX10_isQuestion 9 = .ok (.if_icmp .ge 7, 3) := dk_162 0 7 (dk_at dksX10_isQuestion_0 9 rfl rfl)
theorem dX10_isQuestion_12 : decode cX10_isQuestion 12 = .ok (.iconst 1, 1) := dk_4 (dk_at dksX10_isQuestion_0 12 rfl rfl)
theorem dX10_isQuestion_13 : decode cX10_isQuestion 13 = .ok (.goto 4, 3) := dk_167 0 4 (dk_at dksX10_isQuestion_0 13 rfl rfl)
theorem dX10_isQuestion_16 : decode cX10_isQuestion 16 = .ok (.iconst 0, 1) := dk_3 (dk_at dksX10_isQuestion_0 16 rfl rfl)
theorem dX10_isQuestion_17 : decode cX10_isQuestion 17 = .ok (.ireturn, 1) := dk_172 (dk_at dksX10_isQuestion_0 17 rfl rfl)
def dkwX10_can_2 : List UInt8 := [182, 1, 196, 153, 0, 7, 4, 167, 0, 4, 3, 172]
abbrev dktX10_can_2 : List UInt8 := dkwX10_can_2 ++ []
def dkwX10_can_1 : List UInt8 := [159, 0, 11, 42, 29, 182, 1, 193, 154, 0, 5, 2, 172, 42, 182, 1, 115, 42, 3, 27, 28, 29]
abbrev dktX10_can_1 : List UInt8 := dkwX10_can_1 ++ dktX10_can_2
def dkwX10_can_0 : List UInt8 := [42, 3, 181, 0, 148, 42, 27, 182, 1, 187, 153, 0, 24, 42, 28, 182, 1, 187, 153, 0, 16, 27, 28]
abbrev dktX10_can_0 : List UInt8 := dkwX10_can_0 ++ dktX10_can_1
theorem dksX10_can_0 : cX10_can.data.toList.drop 0 = dktX10_can_0 := by decide +kernel
theorem dksX10_can_1 : cX10_can.data.toList.drop 23 = dktX10_can_1 := dk_seg dksX10_can_0 23 rfl rfl
theorem dksX10_can_2 : cX10_can.data.toList.drop 45 = dktX10_can_2 := dk_seg dksX10_can_1 22 rfl rfl
theorem dX10_can_0 : decode cX10_can 0 = .ok (.aload_n 0, 1) := dk_42 (dk_at dksX10_can_0 0 rfl rfl)
theorem dX10_can_1 : decode cX10_can 1 = .ok (.iconst 0, 1) := dk_3 (dk_at dksX10_can_0 1 rfl rfl)
theorem dX10_can_2 : decode cX10_can 2 = .ok (.putfield 148, 3) := dk_181 0 148 (dk_at dksX10_can_0 2 rfl rfl)
theorem dX10_can_5 : decode cX10_can 5 = .ok (.aload_n 0, 1) := dk_42 (dk_at dksX10_can_0 5 rfl rfl)
theorem dX10_can_6 : decode cX10_can 6 = .ok (.iload_n 1, 1) := dk_27 (dk_at dksX10_can_0 6 rfl rfl)
theorem dX10_can_7 : decode cX10_can 7 = .ok (.invokevirtual 443, 3) := dk_182 1 187 (dk_at dksX10_can_0 7 rfl rfl)
theorem dX10_can_10 : decode cX10_can 10 = .ok (.ifCond .eq 24, 3) := dk_153 0 24 (dk_at dksX10_can_0 10 rfl rfl)
theorem dX10_can_13 : decode cX10_can 13 = .ok (.aload_n 0, 1) := dk_42 (dk_at dksX10_can_0 13 rfl rfl)
theorem dX10_can_14 : decode cX10_can 14 = .ok (.iload_n 2, 1) := dk_28 (dk_at dksX10_can_0 14 rfl rfl)
theorem dX10_can_15 : decode cX10_can 15 = .ok (.invokevirtual 443, 3) := dk_182 1 187 (dk_at dksX10_can_0 15 rfl rfl)
theorem dX10_can_18 : decode cX10_can 18 = .ok (.ifCond .eq 16, 3) := dk_153 0 16 (dk_at dksX10_can_0 18 rfl rfl)
theorem dX10_can_21 : decode cX10_can 21 = .ok (.iload_n 1, 1) := dk_27 (dk_at dksX10_can_0 21 rfl rfl)
theorem dX10_can_22 : decode cX10_can 22 = .ok (.iload_n 2, 1) := dk_28 (dk_at dksX10_can_0 22 rfl rfl)
theorem dX10_can_23 : decode cX10_can 23 = .ok (.if_icmp .eq 11, 3) := dk_159 0 11 (dk_at dksX10_can_1 0 rfl rfl)
theorem dX10_can_26 : decode cX10_can 26 = .ok (.aload_n 0, 1) := dk_42 (dk_at dksX10_can_1 3 rfl rfl)
theorem dX10_can_27 : decode cX10_can 27 = .ok (.iload_n 3, 1) := dk_29 (dk_at dksX10_can_1 4 rfl rfl)
theorem dX10_can_28 : decode cX10_can 28 = .ok (.invokevirtual 449, 3) := dk_182 1 193 (dk_at dksX10_can_1 5 rfl rfl)
theorem dX10_can_31 : decode cX10_can 31 = .ok (.ifCond .ne 5, 3) := dk_154 0 5 (dk_at dksX10_can_1 8 rfl rfl)
theorem dX10_can_34 : decode cX10_can 34 = .ok (.iconst (-1), 1) := dk_2 (dk_at dksX10_can_1 11 rfl rfl)
theorem dX10_can_35 : decode cX10_can 35 = .ok (.ireturn, 1) := dk_172 (dk_at dksX10_can_1 12 rfl rfl)
theorem dX10_can_36 : decode cX10_can 36 = .ok (.aload_n 0, 1) := dk_42 (dk_at dksX10_can_1 13 rfl rfl)
theorem dX10_can_37 : decode cX10_can 37 = .ok (.invokevirtual 371, 3) := dk_182 1 115 (dk_at dksX10_can_1 14 rfl rfl)
theorem dX10_can_40 : decode cX10_can 40 = .ok (.aload_n 0, 1) := dk_42 (dk_at dksX10_can_1 17 rfl rfl)
theorem dX10_can_41 : decode cX10_can 41 = .ok (.iconst 0, 1) := dk_3 (dk_at dksX10_can_1 18 rfl rfl)
theorem dX10_can_42 : decode cX10_can 42 = .ok (.iload_n 1, 1) := dk_27 (dk_at dksX10_can_1 19 rfl rfl)
theorem dX10_can_43 : decode cX10_can 43 = .ok (.iload_n 2, 1) := dk_28 (dk_at dksX10_can_1 20 rfl rfl)
theorem dX10_can_44 : decode cX10_can 44 = .ok (.iload_n 3, 1) := dk_29 (dk_at dksX10_can_1 21 rfl rfl)
theorem dX10_can_45 : decode cX10_can 45 = .ok (.invokevirtual 452, 3) := dk_182 1 196 (dk_at dksX10_can_2 0 rfl rfl)
theorem dX10_can_48 : decode cX10_can 48 = .ok (.ifCond .eq 7, 3) := dk_153 0 7 (dk_at dksX10_can_2 3 rfl rfl)
theorem dX10_can_51 : decode cX10_can 51 = .ok (.iconst 1, 1) := dk_4 (dk_at dksX10_can_2 6 rfl rfl)
theorem dX10_can_52 : decode cX10_can 52 = .ok (.goto 4, 3) := dk_167 0 4 (dk_at dksX10_can_2 7 rfl rfl)
theorem dX10_can_55 : decode cX10_can 55 = .ok (.iconst 0, 1) := dk_3 (dk_at dksX10_can_2 10 rfl rfl)
theorem dX10_can_56 : decode cX10_can 56 = .ok (.ireturn, 1) := dk_172 (dk_at dksX10_can_2 11 rfl rfl)
def dkwX10_canAsk_4 : List UInt8 := [27, 104, 28, 96, 46, 42, 180, 0, 24, 3, 46, 162, 0, 7, 4, 167, 0, 4, 3, 172]
abbrev dktX10_canAsk_4 : List UInt8 := dkwX10_canAsk_4 ++ []
def dkwX10_canAsk_3 : List UInt8 := [8, 27, 104, 28, 96, 46, 2, 130, 126, 154, 0, 33, 42, 180, 1, 130, 154, 0, 22, 42, 180, 0, 109, 8]
abbrev dktX10_canAsk_3 : List UInt8 := dkwX10_canAsk_3 ++ dktX10_canAsk_4
def dkwX10_canAsk_2 : List UInt8 := [154, 0, 12, 21, 4, 42, 180, 1, 142, 160, 0, 5, 3, 172, 42, 21, 4, 182, 1, 145, 42, 180, 0, 100]
abbrev dktX10_canAsk_2 : List UInt8 := dkwX10_canAsk_2 ++ dktX10_canAsk_3
def dkwX10_canAsk_1 : List UInt8 := [46, 160, 0, 34, 42, 180, 1, 139, 28, 184, 1, 8, 154, 0, 23, 42, 180, 1, 139, 29, 184, 1, 8]
abbrev dktX10_canAsk_1 : List UInt8 := dkwX10_canAsk_1 ++ dktX10_canAsk_2
def dkwX10_canAsk_0 : List UInt8 := [28, 29, 159, 0, 57, 42, 180, 0, 106, 8, 27, 104, 28, 96, 46, 42, 180, 0, 106, 8, 27, 104, 29, 96]
abbrev dktX10_canAsk_0 : List UInt8 := dkwX10_canAsk_0 ++ dktX10_canAsk_1
theorem dksX10_canAsk_0 : cX10_canAsk.data.toList.drop 0 = dktX10_canAsk_0 := by decide +kernel
theorem dksX10_canAsk_1 : cX10_canAsk.data.toList.drop 24 = dktX10_canAsk_1 := dk_seg dksX10_canAsk_0 24 rfl rfl
theorem dksX10_canAsk_2 : cX10_canAsk.data.toList.drop 47 = dktX10_canAsk_2 := dk_seg dksX10_canAsk_1 23 rfl rfl
theorem dksX10_canAsk_3 : cX10_canAsk.data.toList.drop 71 = dktX10_canAsk_3 := dk_seg dksX10_canAsk_2 24 rfl rfl
theorem dksX10_canAsk_4 : cX10_canAsk.data.toList.drop 95 = dktX10_canAsk_4 := dk_seg dksX10_canAsk_3 24 rfl rfl
theorem dX10_canAsk_0 : decode cX10_canAsk 0 = .ok (.iload_n 2, 1) := dk_28 (dk_at dksX10_canAsk_0 0 rfl rfl)
theorem dX10_canAsk_1 : decode cX10_canAsk 1 = .ok (.iload_n 3, 1) := dk_29 (dk_at dksX10_canAsk_0 1 rfl rfl)
theorem dX10_canAsk_2 : decode cX10_canAsk 2 = .ok (.if_icmp .eq 57, 3) := dk_159 0 57 (dk_at dksX10_canAsk_0 2 rfl rfl)
theorem dX10_canAsk_5 : decode cX10_canAsk 5 = .ok (.aload_n 0, 1) := dk_42 (dk_at dksX10_canAsk_0 5 rfl rfl)
theorem dX10_canAsk_6 : decode cX10_canAsk 6 = .ok (.getfield 106, 3) := dk_180 0 106 (dk_at dksX10_canAsk_0 6 rfl rfl)
theorem dX10_canAsk_9 : decode cX10_canAsk 9 = .ok (.iconst 5, 1) := dk_8 (dk_at dksX10_canAsk_0 9 rfl rfl)
theorem dX10_canAsk_10 : decode cX10_canAsk 10 = .ok (.iload_n 1, 1) := dk_27 (dk_at dksX10_canAsk_0 10 rfl rfl)
theorem dX10_canAsk_11 : decode cX10_canAsk 11 = .ok (.imul, 1) := dk_104 (dk_at dksX10_canAsk_0 11 rfl rfl)
theorem dX10_canAsk_12 : decode cX10_canAsk 12 = .ok (.iload_n 2, 1) := dk_28 (dk_at dksX10_canAsk_0 12 rfl rfl)
theorem dX10_canAsk_13 : decode cX10_canAsk 13 = .ok (.iadd, 1) := dk_96 (dk_at dksX10_canAsk_0 13 rfl rfl)
theorem dX10_canAsk_14 : decode cX10_canAsk 14 = .ok (.iaload, 1) := dk_46 (dk_at dksX10_canAsk_0 14 rfl rfl)
theorem dX10_canAsk_15 : decode cX10_canAsk 15 = .ok (.aload_n 0, 1) := dk_42 (dk_at dksX10_canAsk_0 15 rfl rfl)
theorem dX10_canAsk_16 : decode cX10_canAsk 16 = .ok (.getfield 106, 3) := dk_180 0 106 (dk_at dksX10_canAsk_0 16 rfl rfl)
theorem dX10_canAsk_19 : decode cX10_canAsk 19 = .ok (.iconst 5, 1) := dk_8 (dk_at dksX10_canAsk_0 19 rfl rfl)
theorem dX10_canAsk_20 : decode cX10_canAsk 20 = .ok (.iload_n 1, 1) := dk_27 (dk_at dksX10_canAsk_0 20 rfl rfl)
theorem dX10_canAsk_21 : decode cX10_canAsk 21 = .ok (.imul, 1) := dk_104 (dk_at dksX10_canAsk_0 21 rfl rfl)
theorem dX10_canAsk_22 : decode cX10_canAsk 22 = .ok (.iload_n 3, 1) := dk_29 (dk_at dksX10_canAsk_0 22 rfl rfl)
theorem dX10_canAsk_23 : decode cX10_canAsk 23 = .ok (.iadd, 1) := dk_96 (dk_at dksX10_canAsk_0 23 rfl rfl)
theorem dX10_canAsk_24 : decode cX10_canAsk 24 = .ok (.iaload, 1) := dk_46 (dk_at dksX10_canAsk_1 0 rfl rfl)
theorem dX10_canAsk_25 : decode cX10_canAsk 25 = .ok (.if_icmp .ne 34, 3) := dk_160 0 34 (dk_at dksX10_canAsk_1 1 rfl rfl)
theorem dX10_canAsk_28 : decode cX10_canAsk 28 = .ok (.aload_n 0, 1) := dk_42 (dk_at dksX10_canAsk_1 4 rfl rfl)
theorem dX10_canAsk_29 : decode cX10_canAsk 29 = .ok (.getfield 395, 3) := dk_180 1 139 (dk_at dksX10_canAsk_1 5 rfl rfl)
theorem dX10_canAsk_32 : decode cX10_canAsk 32 = .ok (.iload_n 2, 1) := dk_28 (dk_at dksX10_canAsk_1 8 rfl rfl)
theorem dX10_canAsk_33 : decode cX10_canAsk 33 = .ok (.invokestatic 264, 3) := dk_184 1 8 (dk_at dksX10_canAsk_1 9 rfl rfl)
theorem dX10_canAsk_36 : decode cX10_canAsk 36 = .ok (.ifCond .ne 23, 3) := dk_154 0 23 (dk_at dksX10_canAsk_1 12 rfl rfl)
theorem dX10_canAsk_39 : decode cX10_canAsk 39 = .ok (.aload_n 0, 1) := dk_42 (dk_at dksX10_canAsk_1 15 rfl rfl)
theorem dX10_canAsk_40 : decode cX10_canAsk 40 = .ok (.getfield 395, 3) := dk_180 1 139 (dk_at dksX10_canAsk_1 16 rfl rfl)
theorem dX10_canAsk_43 : decode cX10_canAsk 43 = .ok (.iload_n 3, 1) := dk_29 (dk_at dksX10_canAsk_1 19 rfl rfl)
theorem dX10_canAsk_44 : decode cX10_canAsk 44 = .ok (.invokestatic 264, 3) := dk_184 1 8 (dk_at dksX10_canAsk_1 20 rfl rfl)
theorem dX10_canAsk_47 : decode cX10_canAsk 47 = .ok (.ifCond .ne 12, 3) := dk_154 0 12 (dk_at dksX10_canAsk_2 0 rfl rfl)
theorem dX10_canAsk_50 : decode cX10_canAsk 50 = .ok (.iload 4, 2) := dk_21 4 (dk_at dksX10_canAsk_2 3 rfl rfl)
theorem dX10_canAsk_52 : decode cX10_canAsk 52 = .ok (.aload_n 0, 1) := dk_42 (dk_at dksX10_canAsk_2 5 rfl rfl)
theorem dX10_canAsk_53 : decode cX10_canAsk 53 = .ok (.getfield 398, 3) := dk_180 1 142 (dk_at dksX10_canAsk_2 6 rfl rfl)
theorem dX10_canAsk_56 : decode cX10_canAsk 56 = .ok (.if_icmp .ne 5, 3) := dk_160 0 5 (dk_at dksX10_canAsk_2 9 rfl rfl)
theorem dX10_canAsk_59 : decode cX10_canAsk 59 = .ok (.iconst 0, 1) := dk_3 (dk_at dksX10_canAsk_2 12 rfl rfl)
theorem dX10_canAsk_60 : decode cX10_canAsk 60 = .ok (.ireturn, 1) := dk_172 (dk_at dksX10_canAsk_2 13 rfl rfl)
theorem dX10_canAsk_61 : decode cX10_canAsk 61 = .ok (.aload_n 0, 1) := dk_42 (dk_at dksX10_canAsk_2 14 rfl rfl)
theorem dX10_canAsk_62 : decode cX10_canAsk 62 = .ok (.iload 4, 2) := dk_21 4 (dk_at dksX10_canAsk_2 15 rfl rfl)
theorem dX10_canAsk_64 : decode cX10_canAsk 64 = .ok (.invokevirtual 401, 3) := dk_182 1 145 (dk_at dksX10_canAsk_2 17 rfl rfl)
theorem dX10_canAsk_67 : decode cX10_canAsk 67 = .ok (.aload_n 0, 1) := dk_42 (dk_at dksX10_canAsk_2 20 rfl rfl)
theorem dX10_canAsk_68 : decode cX10_canAsk 68 = .ok (.getfield 100, 3) := dk_180 0 100 (dk_at dksX10_canAsk_2 21 rfl rfl)
theorem dX10_canAsk_71 : decode cX10_canAsk 71 = .ok (.iconst 5, 1) := dk_8 (dk_at dksX10_canAsk_3 0 rfl rfl)
theorem dX10_canAsk_72 : decode cX10_canAsk 72 = .ok (.iload_n 1, 1) := dk_27 (dk_at dksX10_canAsk_3 1 rfl rfl)
theorem dX10_canAsk_73 : decode cX10_canAsk 73 = .ok (.imul, 1) := dk_104 (dk_at dksX10_canAsk_3 2 rfl rfl)
theorem dX10_canAsk_74 : decode cX10_canAsk 74 = .ok (.iload_n 2, 1) := dk_28 (dk_at dksX10_canAsk_3 3 rfl rfl)
theorem dX10_canAsk_75 : decode cX10_canAsk 75 = .ok (.iadd, 1) := dk_96 (dk_at dksX10_canAsk_3 4 rfl rfl)
theorem dX10_canAsk_76 : decode cX10_canAsk 76 = .ok (.iaload, 1) := dk_46 (dk_at dksX10_canAsk_3 5 rfl rfl)
theorem dX10_canAsk_77 : decode cX10_canAsk 77 = .ok (.iconst (-1), 1) := dk_2 (dk_at dksX10_canAsk_3 6 rfl rfl)
theorem dX10_canAsk_78 : decode cX10_canAsk 78 = .ok (.ixor, 1) := dk_130 (dk_at dksX10_canAsk_3 7 rfl rfl)
theorem dX10_canAsk_79 : decode cX10_canAsk 79 = .ok (.iand, 1) := dk_126 (dk_at dksX10_canAsk_3 8 rfl rfl)
theorem dX10_canAsk_80 : decode cX10_canAsk 80 = .ok (.ifCond .ne 33, 3) := dk_154 0 33 (dk_at dksX10_canAsk_3 9 rfl rfl)
theorem dX10_canAsk_83 : decode cX10_canAsk 83 = .ok (.aload_n 0, 1) := dk_42 (dk_at dksX10_canAsk_3 12 rfl rfl)
theorem dX10_canAsk_84 : decode cX10_canAsk 84 = .ok (.getfield 386, 3) := dk_180 1 130 (dk_at dksX10_canAsk_3 13 rfl rfl)
theorem dX10_canAsk_87 : decode cX10_canAsk 87 = .ok (.ifCond .ne 22, 3) := dk_154 0 22 (dk_at dksX10_canAsk_3 16 rfl rfl)
theorem dX10_canAsk_90 : decode cX10_canAsk 90 = .ok (.aload_n 0, 1) := dk_42 (dk_at dksX10_canAsk_3 19 rfl rfl)
theorem dX10_canAsk_91 : decode cX10_canAsk 91 = .ok (.getfield 109, 3) := dk_180 0 109 (dk_at dksX10_canAsk_3 20 rfl rfl)
theorem dX10_canAsk_94 : decode cX10_canAsk 94 = .ok (.iconst 5, 1) := dk_8 (dk_at dksX10_canAsk_3 23 rfl rfl)
theorem dX10_canAsk_95 : decode cX10_canAsk 95 = .ok (.iload_n 1, 1) := dk_27 (dk_at dksX10_canAsk_4 0 rfl rfl)
theorem dX10_canAsk_96 : decode cX10_canAsk 96 = .ok (.imul, 1) := dk_104 (dk_at dksX10_canAsk_4 1 rfl rfl)
theorem dX10_canAsk_97 : decode cX10_canAsk 97 = .ok (.iload_n 2, 1) := dk_28 (dk_at dksX10_canAsk_4 2 rfl rfl)
theorem dX10_canAsk_98 : decode cX10_canAsk 98 = .ok (.iadd, 1) := dk_96 (dk_at dksX10_canAsk_4 3 rfl rfl)
theorem dX10_canAsk_99 : decode cX10_canAsk 99 = .ok (.iaload, 1) := dk_46 (dk_at dksX10_canAsk_4 4 rfl rfl)
theorem dX10_canAsk_100 : decode cX10_canAsk 100 = .ok (.aload_n 0, 1) := dk_42 (dk_at dksX10_canAsk_4 5 rfl rfl)
theorem dX10_canAsk_101 : decode cX10_canAsk 101 = .ok (.getfield 24, 3) := dk_180 0 24 (dk_at dksX10_canAsk_4 6 rfl rfl)
theorem dX10_canAsk_104 : decode cX10_canAsk 104 = .ok (.iconst 0, 1) := dk_3 (dk_at dksX10_canAsk_4 9 rfl rfl)
theorem dX10_canAsk_105 : decode cX10_canAsk 105 = .ok (.iaload, 1) := dk_46 (dk_at dksX10_canAsk_4 10 rfl rfl)
theorem dX10_canAsk_106 : decode cX10_canAsk 106 = .ok (.if_icmp .ge 7, 3) := dk_162 0 7 (dk_at dksX10_canAsk_4 11 rfl rfl)
theorem dX10_canAsk_109 : decode cX10_canAsk 109 = .ok (.iconst 1, 1) := dk_4 (dk_at dksX10_canAsk_4 14 rfl rfl)
theorem dX10_canAsk_110 : decode cX10_canAsk 110 = .ok (.goto 4, 3) := dk_167 0 4 (dk_at dksX10_canAsk_4 15 rfl rfl)
theorem dX10_canAsk_113 : decode cX10_canAsk 113 = .ok (.iconst 0, 1) := dk_3 (dk_at dksX10_canAsk_4 18 rfl rfl)
theorem dX10_canAsk_114 : decode cX10_canAsk 114 = .ok (.ireturn, 1) := dk_172 (dk_at dksX10_canAsk_4 19 rfl rfl)
def dkwX10_supposed_2 : List UInt8 := [27, 46, 120, 128, 167, 0, 4, 28, 172]
abbrev dktX10_supposed_2 : List UInt8 := dkwX10_supposed_2 ++ []
def dkwX10_supposed_1 : List UInt8 := [180, 0, 48, 27, 46, 4, 160, 0, 25, 42, 180, 0, 54, 27, 46, 155, 0, 16, 28, 4, 42, 180, 0, 54]
abbrev dktX10_supposed_1 : List UInt8 := dkwX10_supposed_1 ++ dktX10_supposed_2
def dkwX10_supposed_0 : List UInt8 := [42, 180, 0, 51, 27, 46, 156, 0, 7, 3, 167, 0, 11, 4, 42, 180, 0, 51, 27, 46, 120, 61, 42]
abbrev dktX10_supposed_0 : List UInt8 := dkwX10_supposed_0 ++ dktX10_supposed_1
theorem dksX10_supposed_0 : cX10_supposed.data.toList.drop 0 = dktX10_supposed_0 := by decide +kernel
theorem dksX10_supposed_1 : cX10_supposed.data.toList.drop 23 = dktX10_supposed_1 := dk_seg dksX10_supposed_0 23 rfl rfl
theorem dksX10_supposed_2 : cX10_supposed.data.toList.drop 47 = dktX10_supposed_2 := dk_seg dksX10_supposed_1 24 rfl rfl
theorem dX10_supposed_0 : decode cX10_supposed 0 = .ok (.aload_n 0, 1) := dk_42 (dk_at dksX10_supposed_0 0 rfl rfl)
theorem dX10_supposed_1 : decode cX10_supposed 1 = .ok (.getfield 51, 3) := dk_180 0 51 (dk_at dksX10_supposed_0 1 rfl rfl)
theorem dX10_supposed_4 : decode cX10_supposed 4 = .ok (.iload_n 1, 1) := dk_27 (dk_at dksX10_supposed_0 4 rfl rfl)
theorem dX10_supposed_5 : decode cX10_supposed 5 = .ok (.iaload, 1) := dk_46 (dk_at dksX10_supposed_0 5 rfl rfl)
theorem dX10_supposed_6 : decode cX10_supposed 6 = .ok (.ifCond .ge 7, 3) := dk_156 0 7 (dk_at dksX10_supposed_0 6 rfl rfl)
theorem dX10_supposed_9 : decode cX10_supposed 9 = .ok (.iconst 0, 1) := dk_3 (dk_at dksX10_supposed_0 9 rfl rfl)
theorem dX10_supposed_10 : decode cX10_supposed 10 = .ok (.goto 11, 3) := dk_167 0 11 (dk_at dksX10_supposed_0 10 rfl rfl)
theorem dX10_supposed_13 : decode cX10_supposed 13 = .ok (.iconst 1, 1) := dk_4 (dk_at dksX10_supposed_0 13 rfl rfl)
theorem dX10_supposed_14 : decode cX10_supposed 14 = .ok (.aload_n 0, 1) := dk_42 (dk_at dksX10_supposed_0 14 rfl rfl)
theorem dX10_supposed_15 : decode cX10_supposed 15 = .ok (.getfield 51, 3) := dk_180 0 51 (dk_at dksX10_supposed_0 15 rfl rfl)
theorem dX10_supposed_18 : decode cX10_supposed 18 = .ok (.iload_n 1, 1) := dk_27 (dk_at dksX10_supposed_0 18 rfl rfl)
theorem dX10_supposed_19 : decode cX10_supposed 19 = .ok (.iaload, 1) := dk_46 (dk_at dksX10_supposed_0 19 rfl rfl)
theorem dX10_supposed_20 : decode cX10_supposed 20 = .ok (.ishl, 1) := dk_120 (dk_at dksX10_supposed_0 20 rfl rfl)
theorem dX10_supposed_21 : decode cX10_supposed 21 = .ok (.istore_n 2, 1) := dk_61 (dk_at dksX10_supposed_0 21 rfl rfl)
theorem dX10_supposed_22 : decode cX10_supposed 22 = .ok (.aload_n 0, 1) := dk_42 (dk_at dksX10_supposed_0 22 rfl rfl)
theorem dX10_supposed_23 : decode cX10_supposed 23 = .ok (.getfield 48, 3) := dk_180 0 48 (dk_at dksX10_supposed_1 0 rfl rfl)
theorem dX10_supposed_26 : decode cX10_supposed 26 = .ok (.iload_n 1, 1) := dk_27 (dk_at dksX10_supposed_1 3 rfl rfl)
theorem dX10_supposed_27 : decode cX10_supposed 27 = .ok (.iaload, 1) := dk_46 (dk_at dksX10_supposed_1 4 rfl rfl)
theorem dX10_supposed_28 : decode cX10_supposed 28 = .ok (.iconst 1, 1) := dk_4 (dk_at dksX10_supposed_1 5 rfl rfl)
theorem dX10_supposed_29 : decode cX10_supposed 29 = .ok (.if_icmp .ne 25, 3) := dk_160 0 25 (dk_at dksX10_supposed_1 6 rfl rfl)
theorem dX10_supposed_32 : decode cX10_supposed 32 = .ok (.aload_n 0, 1) := dk_42 (dk_at dksX10_supposed_1 9 rfl rfl)
theorem dX10_supposed_33 : decode cX10_supposed 33 = .ok (.getfield 54, 3) := dk_180 0 54 (dk_at dksX10_supposed_1 10 rfl rfl)
theorem dX10_supposed_36 : decode cX10_supposed 36 = .ok (.iload_n 1, 1) := dk_27 (dk_at dksX10_supposed_1 13 rfl rfl)
theorem dX10_supposed_37 : decode cX10_supposed 37 = .ok (.iaload, 1) := dk_46 (dk_at dksX10_supposed_1 14 rfl rfl)
theorem dX10_supposed_38 : decode cX10_supposed 38 = .ok (.ifCond .lt 16, 3) := dk_155 0 16 (dk_at dksX10_supposed_1 15 rfl rfl)
theorem dX10_supposed_41 : decode cX10_supposed 41 = .ok (.iload_n 2, 1) := dk_28 (dk_at dksX10_supposed_1 18 rfl rfl)
theorem dX10_supposed_42 : decode cX10_supposed 42 = .ok (.iconst 1, 1) := dk_4 (dk_at dksX10_supposed_1 19 rfl rfl)
theorem dX10_supposed_43 : decode cX10_supposed 43 = .ok (.aload_n 0, 1) := dk_42 (dk_at dksX10_supposed_1 20 rfl rfl)
theorem dX10_supposed_44 : decode cX10_supposed 44 = .ok (.getfield 54, 3) := dk_180 0 54 (dk_at dksX10_supposed_1 21 rfl rfl)
theorem dX10_supposed_47 : decode cX10_supposed 47 = .ok (.iload_n 1, 1) := dk_27 (dk_at dksX10_supposed_2 0 rfl rfl)
theorem dX10_supposed_48 : decode cX10_supposed 48 = .ok (.iaload, 1) := dk_46 (dk_at dksX10_supposed_2 1 rfl rfl)
theorem dX10_supposed_49 : decode cX10_supposed 49 = .ok (.ishl, 1) := dk_120 (dk_at dksX10_supposed_2 2 rfl rfl)
theorem dX10_supposed_50 : decode cX10_supposed 50 = .ok (.ior, 1) := dk_128 (dk_at dksX10_supposed_2 3 rfl rfl)
theorem dX10_supposed_51 : decode cX10_supposed 51 = .ok (.goto 4, 3) := dk_167 0 4 (dk_at dksX10_supposed_2 4 rfl rfl)
theorem dX10_supposed_54 : decode cX10_supposed 54 = .ok (.iload_n 2, 1) := dk_28 (dk_at dksX10_supposed_2 7 rfl rfl)
theorem dX10_supposed_55 : decode cX10_supposed 55 = .ok (.ireturn, 1) := dk_172 (dk_at dksX10_supposed_2 8 rfl rfl)
def dkwX10_law_3 : List UInt8 := [167, 0, 5, 22, 4, 173]
abbrev dktX10_law_3 : List UInt8 := dkwX10_law_3 ++ []
def dkwX10_law_2 : List UInt8 := [3, 28, 29, 182, 1, 158, 42, 27, 182, 1, 161, 55, 4, 42, 180, 1, 86, 153, 0, 9, 20, 1, 200]
abbrev dktX10_law_2 : List UInt8 := dkwX10_law_2 ++ dktX10_law_3
def dkwX10_law_1 : List UInt8 := [28, 182, 1, 187, 153, 0, 11, 42, 29, 182, 1, 193, 154, 0, 7, 20, 1, 200, 173, 42, 182, 1, 115, 42]
abbrev dktX10_law_1 : List UInt8 := dkwX10_law_1 ++ dktX10_law_2
def dkwX10_law_0 : List UInt8 := [42, 3, 181, 0, 148, 27, 3, 4, 184, 0, 193, 153, 0, 28, 42, 180, 0, 69, 27, 51, 153, 0, 19, 42]
abbrev dktX10_law_0 : List UInt8 := dkwX10_law_0 ++ dktX10_law_1
theorem dksX10_law_0 : cX10_law.data.toList.drop 0 = dktX10_law_0 := by decide +kernel
theorem dksX10_law_1 : cX10_law.data.toList.drop 24 = dktX10_law_1 := dk_seg dksX10_law_0 24 rfl rfl
theorem dksX10_law_2 : cX10_law.data.toList.drop 48 = dktX10_law_2 := dk_seg dksX10_law_1 24 rfl rfl
theorem dksX10_law_3 : cX10_law.data.toList.drop 71 = dktX10_law_3 := dk_seg dksX10_law_2 23 rfl rfl
theorem dX10_law_0 : decode cX10_law 0 = .ok (.aload_n 0, 1) := dk_42 (dk_at dksX10_law_0 0 rfl rfl)
theorem dX10_law_1 : decode cX10_law 1 = .ok (.iconst 0, 1) := dk_3 (dk_at dksX10_law_0 1 rfl rfl)
theorem dX10_law_2 : decode cX10_law 2 = .ok (.putfield 148, 3) := dk_181 0 148 (dk_at dksX10_law_0 2 rfl rfl)
theorem dX10_law_5 : decode cX10_law 5 = .ok (.iload_n 1, 1) := dk_27 (dk_at dksX10_law_0 5 rfl rfl)
theorem dX10_law_6 : decode cX10_law 6 = .ok (.iconst 0, 1) := dk_3 (dk_at dksX10_law_0 6 rfl rfl)
theorem dX10_law_7 : decode cX10_law 7 = .ok (.iconst 1, 1) := dk_4 (dk_at dksX10_law_0 7 rfl rfl)
theorem dX10_law_8 : decode cX10_law 8 = .ok (.invokestatic 193, 3) := dk_184 0 193 (dk_at dksX10_law_0 8 rfl rfl)
theorem dX10_law_11 : decode cX10_law 11 = .ok (.ifCond .eq 28, 3) := dk_153 0 28 (dk_at dksX10_law_0 11 rfl rfl)
theorem dX10_law_14 : decode cX10_law 14 = .ok (.aload_n 0, 1) := dk_42 (dk_at dksX10_law_0 14 rfl rfl)
theorem dX10_law_15 : decode cX10_law 15 = .ok (.getfield 69, 3) := dk_180 0 69 (dk_at dksX10_law_0 15 rfl rfl)
theorem dX10_law_18 : decode cX10_law 18 = .ok (.iload_n 1, 1) := dk_27 (dk_at dksX10_law_0 18 rfl rfl)
theorem dX10_law_19 : decode cX10_law 19 = .ok (.baload, 1) := dk_51 (dk_at dksX10_law_0 19 rfl rfl)
theorem dX10_law_20 : decode cX10_law 20 = .ok (.ifCond .eq 19, 3) := dk_153 0 19 (dk_at dksX10_law_0 20 rfl rfl)
theorem dX10_law_23 : decode cX10_law 23 = .ok (.aload_n 0, 1) := dk_42 (dk_at dksX10_law_0 23 rfl rfl)
theorem dX10_law_24 : decode cX10_law 24 = .ok (.iload_n 2, 1) := dk_28 (dk_at dksX10_law_1 0 rfl rfl)
theorem dX10_law_25 : decode cX10_law 25 = .ok (.invokevirtual 443, 3) := dk_182 1 187 (dk_at dksX10_law_1 1 rfl rfl)
theorem dX10_law_28 : decode cX10_law 28 = .ok (.ifCond .eq 11, 3) := dk_153 0 11 (dk_at dksX10_law_1 4 rfl rfl)
theorem dX10_law_31 : decode cX10_law 31 = .ok (.aload_n 0, 1) := dk_42 (dk_at dksX10_law_1 7 rfl rfl)
theorem dX10_law_32 : decode cX10_law 32 = .ok (.iload_n 3, 1) := dk_29 (dk_at dksX10_law_1 8 rfl rfl)
theorem dX10_law_33 : decode cX10_law 33 = .ok (.invokevirtual 449, 3) := dk_182 1 193 (dk_at dksX10_law_1 9 rfl rfl)
theorem dX10_law_36 : decode cX10_law 36 = .ok (.ifCond .ne 7, 3) := dk_154 0 7 (dk_at dksX10_law_1 12 rfl rfl)
theorem dX10_law_39 : decode cX10_law 39 = .ok (.ldc2_w 456, 3) := dk_20 1 200 (dk_at dksX10_law_1 15 rfl rfl)
theorem dX10_law_42 : decode cX10_law 42 = .ok (.lreturn, 1) := dk_173 (dk_at dksX10_law_1 18 rfl rfl)
theorem dX10_law_43 : decode cX10_law 43 = .ok (.aload_n 0, 1) := dk_42 (dk_at dksX10_law_1 19 rfl rfl)
theorem dX10_law_44 : decode cX10_law 44 = .ok (.invokevirtual 371, 3) := dk_182 1 115 (dk_at dksX10_law_1 20 rfl rfl)
theorem dX10_law_47 : decode cX10_law 47 = .ok (.aload_n 0, 1) := dk_42 (dk_at dksX10_law_1 23 rfl rfl)
theorem dX10_law_48 : decode cX10_law 48 = .ok (.iconst 0, 1) := dk_3 (dk_at dksX10_law_2 0 rfl rfl)
theorem dX10_law_49 : decode cX10_law 49 = .ok (.iload_n 2, 1) := dk_28 (dk_at dksX10_law_2 1 rfl rfl)
theorem dX10_law_50 : decode cX10_law 50 = .ok (.iload_n 3, 1) := dk_29 (dk_at dksX10_law_2 2 rfl rfl)
theorem dX10_law_51 : decode cX10_law 51 = .ok (.invokevirtual 414, 3) := dk_182 1 158 (dk_at dksX10_law_2 3 rfl rfl)
theorem dX10_law_54 : decode cX10_law 54 = .ok (.aload_n 0, 1) := dk_42 (dk_at dksX10_law_2 6 rfl rfl)
theorem dX10_law_55 : decode cX10_law 55 = .ok (.iload_n 1, 1) := dk_27 (dk_at dksX10_law_2 7 rfl rfl)
theorem dX10_law_56 : decode cX10_law 56 = .ok (.invokevirtual 417, 3) := dk_182 1 161 (dk_at dksX10_law_2 8 rfl rfl)
theorem dX10_law_59 : decode cX10_law 59 = .ok (.lstore 4, 2) := dk_55 4 (dk_at dksX10_law_2 11 rfl rfl)
theorem dX10_law_61 : decode cX10_law 61 = .ok (.aload_n 0, 1) := dk_42 (dk_at dksX10_law_2 13 rfl rfl)
theorem dX10_law_62 : decode cX10_law 62 = .ok (.getfield 342, 3) := dk_180 1 86 (dk_at dksX10_law_2 14 rfl rfl)
theorem dX10_law_65 : decode cX10_law 65 = .ok (.ifCond .eq 9, 3) := dk_153 0 9 (dk_at dksX10_law_2 17 rfl rfl)
theorem dX10_law_68 : decode cX10_law 68 = .ok (.ldc2_w 456, 3) := dk_20 1 200 (dk_at dksX10_law_2 20 rfl rfl)
theorem dX10_law_71 : decode cX10_law 71 = .ok (.goto 5, 3) := dk_167 0 5 (dk_at dksX10_law_3 0 rfl rfl)
theorem dX10_law_74 : decode cX10_law 74 = .ok (.lload 4, 2) := dk_22 4 (dk_at dksX10_law_3 3 rfl rfl)
theorem dX10_law_76 : decode cX10_law 76 = .ok (.lreturn, 1) := dk_173 (dk_at dksX10_law_3 5 rfl rfl)
def dkwX10_layNames_4 : List UInt8 := [16, 6, 42, 180, 0, 112, 27, 46, 133, 80, 177]
abbrev dktX10_layNames_4 : List UInt8 := dkwX10_layNames_4 ++ []
def dkwX10_layNames_3 : List UInt8 := [27, 104, 28, 96, 46, 133, 80, 42, 180, 0, 93, 8, 42, 180, 0, 48, 29, 46, 133, 80, 42, 180, 0, 93]
abbrev dktX10_layNames_3 : List UInt8 := dkwX10_layNames_3 ++ dktX10_layNames_4
def dkwX10_layNames_2 : List UInt8 := [180, 0, 100, 8, 27, 104, 28, 96, 46, 184, 1, 151, 133, 80, 42, 180, 0, 93, 7, 42, 180, 0, 106, 8]
abbrev dktX10_layNames_2 : List UInt8 := dkwX10_layNames_2 ++ dktX10_layNames_3
def dkwX10_layNames_1 : List UInt8 := [80, 42, 180, 0, 93, 5, 42, 180, 0, 103, 8, 27, 104, 28, 96, 46, 133, 80, 42, 180, 0, 93, 6, 42]
abbrev dktX10_layNames_1 : List UInt8 := dkwX10_layNames_1 ++ dktX10_layNames_2
def dkwX10_layNames_0 : List UInt8 := [42, 180, 0, 93, 3, 42, 180, 0, 33, 28, 46, 133, 80, 42, 180, 0, 93, 4, 42, 28, 182, 1, 148, 133]
abbrev dktX10_layNames_0 : List UInt8 := dkwX10_layNames_0 ++ dktX10_layNames_1
theorem dksX10_layNames_0 : cX10_layNames.data.toList.drop 0 = dktX10_layNames_0 := by decide +kernel
theorem dksX10_layNames_1 : cX10_layNames.data.toList.drop 24 = dktX10_layNames_1 := dk_seg dksX10_layNames_0 24 rfl rfl
theorem dksX10_layNames_2 : cX10_layNames.data.toList.drop 48 = dktX10_layNames_2 := dk_seg dksX10_layNames_1 24 rfl rfl
theorem dksX10_layNames_3 : cX10_layNames.data.toList.drop 72 = dktX10_layNames_3 := dk_seg dksX10_layNames_2 24 rfl rfl
theorem dksX10_layNames_4 : cX10_layNames.data.toList.drop 96 = dktX10_layNames_4 := dk_seg dksX10_layNames_3 24 rfl rfl
theorem dX10_layNames_0 : decode cX10_layNames 0 = .ok (.aload_n 0, 1) := dk_42 (dk_at dksX10_layNames_0 0 rfl rfl)
theorem dX10_layNames_1 : decode cX10_layNames 1 = .ok (.getfield 93, 3) := dk_180 0 93 (dk_at dksX10_layNames_0 1 rfl rfl)
theorem dX10_layNames_4 : decode cX10_layNames 4 = .ok (.iconst 0, 1) := dk_3 (dk_at dksX10_layNames_0 4 rfl rfl)
theorem dX10_layNames_5 : decode cX10_layNames 5 = .ok (.aload_n 0, 1) := dk_42 (dk_at dksX10_layNames_0 5 rfl rfl)
theorem dX10_layNames_6 : decode cX10_layNames 6 = .ok (.getfield 33, 3) := dk_180 0 33 (dk_at dksX10_layNames_0 6 rfl rfl)
theorem dX10_layNames_9 : decode cX10_layNames 9 = .ok (.iload_n 2, 1) := dk_28 (dk_at dksX10_layNames_0 9 rfl rfl)
theorem dX10_layNames_10 : decode cX10_layNames 10 = .ok (.iaload, 1) := dk_46 (dk_at dksX10_layNames_0 10 rfl rfl)
theorem dX10_layNames_11 : decode cX10_layNames 11 = .ok (.i2l, 1) := dk_133 (dk_at dksX10_layNames_0 11 rfl rfl)
theorem dX10_layNames_12 : decode cX10_layNames 12 = .ok (.lastore, 1) := dk_80 (dk_at dksX10_layNames_0 12 rfl rfl)
theorem dX10_layNames_13 : decode cX10_layNames 13 = .ok (.aload_n 0, 1) := dk_42 (dk_at dksX10_layNames_0 13 rfl rfl)
theorem dX10_layNames_14 : decode cX10_layNames 14 = .ok (.getfield 93, 3) := dk_180 0 93 (dk_at dksX10_layNames_0 14 rfl rfl)
theorem dX10_layNames_17 : decode cX10_layNames 17 = .ok (.iconst 1, 1) := dk_4 (dk_at dksX10_layNames_0 17 rfl rfl)
theorem dX10_layNames_18 : decode cX10_layNames 18 = .ok (.aload_n 0, 1) := dk_42 (dk_at dksX10_layNames_0 18 rfl rfl)
theorem dX10_layNames_19 : decode cX10_layNames 19 = .ok (.iload_n 2, 1) := dk_28 (dk_at dksX10_layNames_0 19 rfl rfl)
theorem dX10_layNames_20 : decode cX10_layNames 20 = .ok (.invokevirtual 404, 3) := dk_182 1 148 (dk_at dksX10_layNames_0 20 rfl rfl)
theorem dX10_layNames_23 : decode cX10_layNames 23 = .ok (.i2l, 1) := dk_133 (dk_at dksX10_layNames_0 23 rfl rfl)
theorem dX10_layNames_24 : decode cX10_layNames 24 = .ok (.lastore, 1) := dk_80 (dk_at dksX10_layNames_1 0 rfl rfl)
theorem dX10_layNames_25 : decode cX10_layNames 25 = .ok (.aload_n 0, 1) := dk_42 (dk_at dksX10_layNames_1 1 rfl rfl)
theorem dX10_layNames_26 : decode cX10_layNames 26 = .ok (.getfield 93, 3) := dk_180 0 93 (dk_at dksX10_layNames_1 2 rfl rfl)
theorem dX10_layNames_29 : decode cX10_layNames 29 = .ok (.iconst 2, 1) := dk_5 (dk_at dksX10_layNames_1 5 rfl rfl)
theorem dX10_layNames_30 : decode cX10_layNames 30 = .ok (.aload_n 0, 1) := dk_42 (dk_at dksX10_layNames_1 6 rfl rfl)
theorem dX10_layNames_31 : decode cX10_layNames 31 = .ok (.getfield 103, 3) := dk_180 0 103 (dk_at dksX10_layNames_1 7 rfl rfl)
theorem dX10_layNames_34 : decode cX10_layNames 34 = .ok (.iconst 5, 1) := dk_8 (dk_at dksX10_layNames_1 10 rfl rfl)
theorem dX10_layNames_35 : decode cX10_layNames 35 = .ok (.iload_n 1, 1) := dk_27 (dk_at dksX10_layNames_1 11 rfl rfl)
theorem dX10_layNames_36 : decode cX10_layNames 36 = .ok (.imul, 1) := dk_104 (dk_at dksX10_layNames_1 12 rfl rfl)
theorem dX10_layNames_37 : decode cX10_layNames 37 = .ok (.iload_n 2, 1) := dk_28 (dk_at dksX10_layNames_1 13 rfl rfl)
theorem dX10_layNames_38 : decode cX10_layNames 38 = .ok (.iadd, 1) := dk_96 (dk_at dksX10_layNames_1 14 rfl rfl)
theorem dX10_layNames_39 : decode cX10_layNames 39 = .ok (.iaload, 1) := dk_46 (dk_at dksX10_layNames_1 15 rfl rfl)
theorem dX10_layNames_40 : decode cX10_layNames 40 = .ok (.i2l, 1) := dk_133 (dk_at dksX10_layNames_1 16 rfl rfl)
theorem dX10_layNames_41 : decode cX10_layNames 41 = .ok (.lastore, 1) := dk_80 (dk_at dksX10_layNames_1 17 rfl rfl)
theorem dX10_layNames_42 : decode cX10_layNames 42 = .ok (.aload_n 0, 1) := dk_42 (dk_at dksX10_layNames_1 18 rfl rfl)
theorem dX10_layNames_43 : decode cX10_layNames 43 = .ok (.getfield 93, 3) := dk_180 0 93 (dk_at dksX10_layNames_1 19 rfl rfl)
theorem dX10_layNames_46 : decode cX10_layNames 46 = .ok (.iconst 3, 1) := dk_6 (dk_at dksX10_layNames_1 22 rfl rfl)
theorem dX10_layNames_47 : decode cX10_layNames 47 = .ok (.aload_n 0, 1) := dk_42 (dk_at dksX10_layNames_1 23 rfl rfl)
theorem dX10_layNames_48 : decode cX10_layNames 48 = .ok (.getfield 100, 3) := dk_180 0 100 (dk_at dksX10_layNames_2 0 rfl rfl)
theorem dX10_layNames_51 : decode cX10_layNames 51 = .ok (.iconst 5, 1) := dk_8 (dk_at dksX10_layNames_2 3 rfl rfl)
theorem dX10_layNames_52 : decode cX10_layNames 52 = .ok (.iload_n 1, 1) := dk_27 (dk_at dksX10_layNames_2 4 rfl rfl)
theorem dX10_layNames_53 : decode cX10_layNames 53 = .ok (.imul, 1) := dk_104 (dk_at dksX10_layNames_2 5 rfl rfl)
theorem dX10_layNames_54 : decode cX10_layNames 54 = .ok (.iload_n 2, 1) := dk_28 (dk_at dksX10_layNames_2 6 rfl rfl)
theorem dX10_layNames_55 : decode cX10_layNames 55 = .ok (.iadd, 1) := dk_96 (dk_at dksX10_layNames_2 7 rfl rfl)
theorem dX10_layNames_56 : decode cX10_layNames 56 = .ok (.iaload, 1) := dk_46 (dk_at dksX10_layNames_2 8 rfl rfl)
theorem dX10_layNames_57 : decode cX10_layNames 57 = .ok (.invokestatic 407, 3) := dk_184 1 151 (dk_at dksX10_layNames_2 9 rfl rfl)
theorem dX10_layNames_60 : decode cX10_layNames 60 = .ok (.i2l, 1) := dk_133 (dk_at dksX10_layNames_2 12 rfl rfl)
theorem dX10_layNames_61 : decode cX10_layNames 61 = .ok (.lastore, 1) := dk_80 (dk_at dksX10_layNames_2 13 rfl rfl)
theorem dX10_layNames_62 : decode cX10_layNames 62 = .ok (.aload_n 0, 1) := dk_42 (dk_at dksX10_layNames_2 14 rfl rfl)
theorem dX10_layNames_63 : decode cX10_layNames 63 = .ok (.getfield 93, 3) := dk_180 0 93 (dk_at dksX10_layNames_2 15 rfl rfl)
theorem dX10_layNames_66 : decode cX10_layNames 66 = .ok (.iconst 4, 1) := dk_7 (dk_at dksX10_layNames_2 18 rfl rfl)
theorem dX10_layNames_67 : decode cX10_layNames 67 = .ok (.aload_n 0, 1) := dk_42 (dk_at dksX10_layNames_2 19 rfl rfl)
theorem dX10_layNames_68 : decode cX10_layNames 68 = .ok (.getfield 106, 3) := dk_180 0 106 (dk_at dksX10_layNames_2 20 rfl rfl)
theorem dX10_layNames_71 : decode cX10_layNames 71 = .ok (.iconst 5, 1) := dk_8 (dk_at dksX10_layNames_2 23 rfl rfl)
theorem dX10_layNames_72 : decode cX10_layNames 72 = .ok (.iload_n 1, 1) := dk_27 (dk_at dksX10_layNames_3 0 rfl rfl)
theorem dX10_layNames_73 : decode cX10_layNames 73 = .ok (.imul, 1) := dk_104 (dk_at dksX10_layNames_3 1 rfl rfl)
theorem dX10_layNames_74 : decode cX10_layNames 74 = .ok (.iload_n 2, 1) := dk_28 (dk_at dksX10_layNames_3 2 rfl rfl)
theorem dX10_layNames_75 : decode cX10_layNames 75 = .ok (.iadd, 1) := dk_96 (dk_at dksX10_layNames_3 3 rfl rfl)
theorem dX10_layNames_76 : decode cX10_layNames 76 = .ok (.iaload, 1) := dk_46 (dk_at dksX10_layNames_3 4 rfl rfl)
theorem dX10_layNames_77 : decode cX10_layNames 77 = .ok (.i2l, 1) := dk_133 (dk_at dksX10_layNames_3 5 rfl rfl)
theorem dX10_layNames_78 : decode cX10_layNames 78 = .ok (.lastore, 1) := dk_80 (dk_at dksX10_layNames_3 6 rfl rfl)
theorem dX10_layNames_79 : decode cX10_layNames 79 = .ok (.aload_n 0, 1) := dk_42 (dk_at dksX10_layNames_3 7 rfl rfl)
theorem dX10_layNames_80 : decode cX10_layNames 80 = .ok (.getfield 93, 3) := dk_180 0 93 (dk_at dksX10_layNames_3 8 rfl rfl)
theorem dX10_layNames_83 : decode cX10_layNames 83 = .ok (.iconst 5, 1) := dk_8 (dk_at dksX10_layNames_3 11 rfl rfl)
theorem dX10_layNames_84 : decode cX10_layNames 84 = .ok (.aload_n 0, 1) := dk_42 (dk_at dksX10_layNames_3 12 rfl rfl)
theorem dX10_layNames_85 : decode cX10_layNames 85 = .ok (.getfield 48, 3) := dk_180 0 48 (dk_at dksX10_layNames_3 13 rfl rfl)
theorem dX10_layNames_88 : decode cX10_layNames 88 = .ok (.iload_n 3, 1) := dk_29 (dk_at dksX10_layNames_3 16 rfl rfl)
theorem dX10_layNames_89 : decode cX10_layNames 89 = .ok (.iaload, 1) := dk_46 (dk_at dksX10_layNames_3 17 rfl rfl)
theorem dX10_layNames_90 : decode cX10_layNames 90 = .ok (.i2l, 1) := dk_133 (dk_at dksX10_layNames_3 18 rfl rfl)
theorem dX10_layNames_91 : decode cX10_layNames 91 = .ok (.lastore, 1) := dk_80 (dk_at dksX10_layNames_3 19 rfl rfl)
theorem dX10_layNames_92 : decode cX10_layNames 92 = .ok (.aload_n 0, 1) := dk_42 (dk_at dksX10_layNames_3 20 rfl rfl)
theorem dX10_layNames_93 : decode cX10_layNames 93 = .ok (.getfield 93, 3) := dk_180 0 93 (dk_at dksX10_layNames_3 21 rfl rfl)
theorem dX10_layNames_96 : decode cX10_layNames 96 = .ok (.bipush 6, 2) := dk_16 6 (dk_at dksX10_layNames_4 0 rfl rfl)
theorem dX10_layNames_98 : decode cX10_layNames 98 = .ok (.aload_n 0, 1) := dk_42 (dk_at dksX10_layNames_4 2 rfl rfl)
theorem dX10_layNames_99 : decode cX10_layNames 99 = .ok (.getfield 112, 3) := dk_180 0 112 (dk_at dksX10_layNames_4 3 rfl rfl)
theorem dX10_layNames_102 : decode cX10_layNames 102 = .ok (.iload_n 1, 1) := dk_27 (dk_at dksX10_layNames_4 6 rfl rfl)
theorem dX10_layNames_103 : decode cX10_layNames 103 = .ok (.iaload, 1) := dk_46 (dk_at dksX10_layNames_4 7 rfl rfl)
theorem dX10_layNames_104 : decode cX10_layNames 104 = .ok (.i2l, 1) := dk_133 (dk_at dksX10_layNames_4 8 rfl rfl)
theorem dX10_layNames_105 : decode cX10_layNames 105 = .ok (.lastore, 1) := dk_80 (dk_at dksX10_layNames_4 9 rfl rfl)
theorem dX10_layNames_106 : decode cX10_layNames 106 = .ok (.return_, 1) := dk_177 (dk_at dksX10_layNames_4 10 rfl rfl)
def dkwX10_witOf_0 : List UInt8 := [42, 180, 1, 136, 153, 0, 8, 16, 9, 167, 0, 9, 42, 180, 0, 36, 27, 46, 172]
abbrev dktX10_witOf_0 : List UInt8 := dkwX10_witOf_0 ++ []
theorem dksX10_witOf_0 : cX10_witOf.data.toList.drop 0 = dktX10_witOf_0 := by decide +kernel
theorem dX10_witOf_0 : decode cX10_witOf 0 = .ok (.aload_n 0, 1) := dk_42 (dk_at dksX10_witOf_0 0 rfl rfl)
theorem dX10_witOf_1 : decode cX10_witOf 1 = .ok (.getfield 392, 3) := dk_180 1 136 (dk_at dksX10_witOf_0 1 rfl rfl)
theorem dX10_witOf_4 : decode cX10_witOf 4 = .ok (.ifCond .eq 8, 3) := dk_153 0 8 (dk_at dksX10_witOf_0 4 rfl rfl)
theorem dX10_witOf_7 : decode cX10_witOf 7 = .ok (.bipush 9, 2) := dk_16 9 (dk_at dksX10_witOf_0 7 rfl rfl)
theorem dX10_witOf_9 : decode cX10_witOf 9 = .ok (.goto 9, 3) := dk_167 0 9 (dk_at dksX10_witOf_0 9 rfl rfl)
theorem dX10_witOf_12 : decode cX10_witOf 12 = .ok (.aload_n 0, 1) := dk_42 (dk_at dksX10_witOf_0 12 rfl rfl)
theorem dX10_witOf_13 : decode cX10_witOf 13 = .ok (.getfield 36, 3) := dk_180 0 36 (dk_at dksX10_witOf_0 13 rfl rfl)
theorem dX10_witOf_16 : decode cX10_witOf 16 = .ok (.iload_n 1, 1) := dk_27 (dk_at dksX10_witOf_0 16 rfl rfl)
theorem dX10_witOf_17 : decode cX10_witOf 17 = .ok (.iaload, 1) := dk_46 (dk_at dksX10_witOf_0 17 rfl rfl)
theorem dX10_witOf_18 : decode cX10_witOf 18 = .ok (.ireturn, 1) := dk_172 (dk_at dksX10_witOf_0 18 rfl rfl)
def dkwX10_manyOf_1 : List UInt8 := [27, 172]
abbrev dktX10_manyOf_1 : List UInt8 := dkwX10_manyOf_1 ++ []
def dkwX10_manyOf_0 : List UInt8 := [3, 60, 3, 61, 28, 16, 8, 162, 0, 17, 27, 26, 28, 122, 4, 126, 96, 60, 132, 2, 1, 167, 255, 239]
abbrev dktX10_manyOf_0 : List UInt8 := dkwX10_manyOf_0 ++ dktX10_manyOf_1
theorem dksX10_manyOf_0 : cX10_manyOf.data.toList.drop 0 = dktX10_manyOf_0 := by decide +kernel
theorem dksX10_manyOf_1 : cX10_manyOf.data.toList.drop 24 = dktX10_manyOf_1 := dk_seg dksX10_manyOf_0 24 rfl rfl
theorem dX10_manyOf_0 : decode cX10_manyOf 0 = .ok (.iconst 0, 1) := dk_3 (dk_at dksX10_manyOf_0 0 rfl rfl)
theorem dX10_manyOf_1 : decode cX10_manyOf 1 = .ok (.istore_n 1, 1) := dk_60 (dk_at dksX10_manyOf_0 1 rfl rfl)
theorem dX10_manyOf_2 : decode cX10_manyOf 2 = .ok (.iconst 0, 1) := dk_3 (dk_at dksX10_manyOf_0 2 rfl rfl)
theorem dX10_manyOf_3 : decode cX10_manyOf 3 = .ok (.istore_n 2, 1) := dk_61 (dk_at dksX10_manyOf_0 3 rfl rfl)
theorem dX10_manyOf_4 : decode cX10_manyOf 4 = .ok (.iload_n 2, 1) := dk_28 (dk_at dksX10_manyOf_0 4 rfl rfl)
theorem dX10_manyOf_5 : decode cX10_manyOf 5 = .ok (.bipush 8, 2) := dk_16 8 (dk_at dksX10_manyOf_0 5 rfl rfl)
theorem dX10_manyOf_7 : decode cX10_manyOf 7 = .ok (.if_icmp .ge 17, 3) := dk_162 0 17 (dk_at dksX10_manyOf_0 7 rfl rfl)
theorem dX10_manyOf_10 : decode cX10_manyOf 10 = .ok (.iload_n 1, 1) := dk_27 (dk_at dksX10_manyOf_0 10 rfl rfl)
theorem dX10_manyOf_11 : decode cX10_manyOf 11 = .ok (.iload_n 0, 1) := dk_26 (dk_at dksX10_manyOf_0 11 rfl rfl)
theorem dX10_manyOf_12 : decode cX10_manyOf 12 = .ok (.iload_n 2, 1) := dk_28 (dk_at dksX10_manyOf_0 12 rfl rfl)
theorem dX10_manyOf_13 : decode cX10_manyOf 13 = .ok (.ishr, 1) := dk_122 (dk_at dksX10_manyOf_0 13 rfl rfl)
theorem dX10_manyOf_14 : decode cX10_manyOf 14 = .ok (.iconst 1, 1) := dk_4 (dk_at dksX10_manyOf_0 14 rfl rfl)
theorem dX10_manyOf_15 : decode cX10_manyOf 15 = .ok (.iand, 1) := dk_126 (dk_at dksX10_manyOf_0 15 rfl rfl)
theorem dX10_manyOf_16 : decode cX10_manyOf 16 = .ok (.iadd, 1) := dk_96 (dk_at dksX10_manyOf_0 16 rfl rfl)
theorem dX10_manyOf_17 : decode cX10_manyOf 17 = .ok (.istore_n 1, 1) := dk_60 (dk_at dksX10_manyOf_0 17 rfl rfl)
theorem dX10_manyOf_18 : decode cX10_manyOf 18 = .ok (.iinc 2 1, 3) := dk_132 2 1 (dk_at dksX10_manyOf_0 18 rfl rfl)
theorem dX10_manyOf_21 : decode cX10_manyOf 21 = .ok (.goto (-17), 3) := dk_167 255 239 (dk_at dksX10_manyOf_0 21 rfl rfl)
theorem dX10_manyOf_24 : decode cX10_manyOf 24 = .ok (.iload_n 1, 1) := dk_27 (dk_at dksX10_manyOf_1 0 rfl rfl)
theorem dX10_manyOf_25 : decode cX10_manyOf 25 = .ok (.ireturn, 1) := dk_172 (dk_at dksX10_manyOf_1 1 rfl rfl)
def dkwX10_lawOf_2 : List UInt8 := [167, 0, 16, 42, 180, 0, 97, 42, 180, 0, 75, 27, 46, 4, 100, 47, 173]
abbrev dktX10_lawOf_2 : List UInt8 := dkwX10_lawOf_2 ++ []
def dkwX10_lawOf_1 : List UInt8 := [180, 0, 97, 28, 42, 28, 182, 1, 154, 80, 132, 2, 1, 167, 255, 232, 42, 180, 1, 86, 153, 0, 7, 9]
abbrev dktX10_lawOf_1 : List UInt8 := dkwX10_lawOf_1 ++ dktX10_lawOf_2
def dkwX10_lawOf_0 : List UInt8 := [42, 3, 181, 1, 86, 42, 180, 0, 72, 27, 46, 61, 28, 42, 180, 0, 75, 27, 46, 162, 0, 20, 42]
abbrev dktX10_lawOf_0 : List UInt8 := dkwX10_lawOf_0 ++ dktX10_lawOf_1
theorem dksX10_lawOf_0 : cX10_lawOf.data.toList.drop 0 = dktX10_lawOf_0 := by decide +kernel
theorem dksX10_lawOf_1 : cX10_lawOf.data.toList.drop 23 = dktX10_lawOf_1 := dk_seg dksX10_lawOf_0 23 rfl rfl
theorem dksX10_lawOf_2 : cX10_lawOf.data.toList.drop 47 = dktX10_lawOf_2 := dk_seg dksX10_lawOf_1 24 rfl rfl
theorem dX10_lawOf_0 : decode cX10_lawOf 0 = .ok (.aload_n 0, 1) := dk_42 (dk_at dksX10_lawOf_0 0 rfl rfl)
theorem dX10_lawOf_1 : decode cX10_lawOf 1 = .ok (.iconst 0, 1) := dk_3 (dk_at dksX10_lawOf_0 1 rfl rfl)
theorem dX10_lawOf_2 : decode cX10_lawOf 2 = .ok (.putfield 342, 3) := dk_181 1 86 (dk_at dksX10_lawOf_0 2 rfl rfl)
theorem dX10_lawOf_5 : decode cX10_lawOf 5 = .ok (.aload_n 0, 1) := dk_42 (dk_at dksX10_lawOf_0 5 rfl rfl)
theorem dX10_lawOf_6 : decode cX10_lawOf 6 = .ok (.getfield 72, 3) := dk_180 0 72 (dk_at dksX10_lawOf_0 6 rfl rfl)
theorem dX10_lawOf_9 : decode cX10_lawOf 9 = .ok (.iload_n 1, 1) := dk_27 (dk_at dksX10_lawOf_0 9 rfl rfl)
theorem dX10_lawOf_10 : decode cX10_lawOf 10 = .ok (.iaload, 1) := dk_46 (dk_at dksX10_lawOf_0 10 rfl rfl)
theorem dX10_lawOf_11 : decode cX10_lawOf 11 = .ok (.istore_n 2, 1) := dk_61 (dk_at dksX10_lawOf_0 11 rfl rfl)
theorem dX10_lawOf_12 : decode cX10_lawOf 12 = .ok (.iload_n 2, 1) := dk_28 (dk_at dksX10_lawOf_0 12 rfl rfl)
theorem dX10_lawOf_13 : decode cX10_lawOf 13 = .ok (.aload_n 0, 1) := dk_42 (dk_at dksX10_lawOf_0 13 rfl rfl)
theorem dX10_lawOf_14 : decode cX10_lawOf 14 = .ok (.getfield 75, 3) := dk_180 0 75 (dk_at dksX10_lawOf_0 14 rfl rfl)
theorem dX10_lawOf_17 : decode cX10_lawOf 17 = .ok (.iload_n 1, 1) := dk_27 (dk_at dksX10_lawOf_0 17 rfl rfl)
theorem dX10_lawOf_18 : decode cX10_lawOf 18 = .ok (.iaload, 1) := dk_46 (dk_at dksX10_lawOf_0 18 rfl rfl)
theorem dX10_lawOf_19 : decode cX10_lawOf 19 = .ok (.if_icmp .ge 20, 3) := dk_162 0 20 (dk_at dksX10_lawOf_0 19 rfl rfl)
theorem dX10_lawOf_22 : decode cX10_lawOf 22 = .ok (.aload_n 0, 1) := dk_42 (dk_at dksX10_lawOf_0 22 rfl rfl)
theorem dX10_lawOf_23 : decode cX10_lawOf 23 = .ok (.getfield 97, 3) := dk_180 0 97 (dk_at dksX10_lawOf_1 0 rfl rfl)
theorem dX10_lawOf_26 : decode cX10_lawOf 26 = .ok (.iload_n 2, 1) := dk_28 (dk_at dksX10_lawOf_1 3 rfl rfl)
theorem dX10_lawOf_27 : decode cX10_lawOf 27 = .ok (.aload_n 0, 1) := dk_42 (dk_at dksX10_lawOf_1 4 rfl rfl)
theorem dX10_lawOf_28 : decode cX10_lawOf 28 = .ok (.iload_n 2, 1) := dk_28 (dk_at dksX10_lawOf_1 5 rfl rfl)
theorem dX10_lawOf_29 : decode cX10_lawOf 29 = .ok (.invokevirtual 410, 3) := dk_182 1 154 (dk_at dksX10_lawOf_1 6 rfl rfl)
theorem dX10_lawOf_32 : decode cX10_lawOf 32 = .ok (.lastore, 1) := dk_80 (dk_at dksX10_lawOf_1 9 rfl rfl)
theorem dX10_lawOf_33 : decode cX10_lawOf 33 = .ok (.iinc 2 1, 3) := dk_132 2 1 (dk_at dksX10_lawOf_1 10 rfl rfl)
theorem dX10_lawOf_36 : decode cX10_lawOf 36 = .ok (.goto (-24), 3) := dk_167 255 232 (dk_at dksX10_lawOf_1 13 rfl rfl)
theorem dX10_lawOf_39 : decode cX10_lawOf 39 = .ok (.aload_n 0, 1) := dk_42 (dk_at dksX10_lawOf_1 16 rfl rfl)
theorem dX10_lawOf_40 : decode cX10_lawOf 40 = .ok (.getfield 342, 3) := dk_180 1 86 (dk_at dksX10_lawOf_1 17 rfl rfl)
theorem dX10_lawOf_43 : decode cX10_lawOf 43 = .ok (.ifCond .eq 7, 3) := dk_153 0 7 (dk_at dksX10_lawOf_1 20 rfl rfl)
theorem dX10_lawOf_46 : decode cX10_lawOf 46 = .ok (.lconst 0, 1) := dk_9 (dk_at dksX10_lawOf_1 23 rfl rfl)
theorem dX10_lawOf_47 : decode cX10_lawOf 47 = .ok (.goto 16, 3) := dk_167 0 16 (dk_at dksX10_lawOf_2 0 rfl rfl)
theorem dX10_lawOf_50 : decode cX10_lawOf 50 = .ok (.aload_n 0, 1) := dk_42 (dk_at dksX10_lawOf_2 3 rfl rfl)
theorem dX10_lawOf_51 : decode cX10_lawOf 51 = .ok (.getfield 97, 3) := dk_180 0 97 (dk_at dksX10_lawOf_2 4 rfl rfl)
theorem dX10_lawOf_54 : decode cX10_lawOf 54 = .ok (.aload_n 0, 1) := dk_42 (dk_at dksX10_lawOf_2 7 rfl rfl)
theorem dX10_lawOf_55 : decode cX10_lawOf 55 = .ok (.getfield 75, 3) := dk_180 0 75 (dk_at dksX10_lawOf_2 8 rfl rfl)
theorem dX10_lawOf_58 : decode cX10_lawOf 58 = .ok (.iload_n 1, 1) := dk_27 (dk_at dksX10_lawOf_2 11 rfl rfl)
theorem dX10_lawOf_59 : decode cX10_lawOf 59 = .ok (.iaload, 1) := dk_46 (dk_at dksX10_lawOf_2 12 rfl rfl)
theorem dX10_lawOf_60 : decode cX10_lawOf 60 = .ok (.iconst 1, 1) := dk_4 (dk_at dksX10_lawOf_2 13 rfl rfl)
theorem dX10_lawOf_61 : decode cX10_lawOf 61 = .ok (.isub, 1) := dk_100 (dk_at dksX10_lawOf_2 14 rfl rfl)
theorem dX10_lawOf_62 : decode cX10_lawOf 62 = .ok (.laload, 1) := dk_47 (dk_at dksX10_lawOf_2 15 rfl rfl)
theorem dX10_lawOf_63 : decode cX10_lawOf 63 = .ok (.lreturn, 1) := dk_173 (dk_at dksX10_lawOf_2 16 rfl rfl)
def dkwX10_valueOf_10 : List UInt8 := [153, 0, 7, 10, 167, 0, 4, 9, 173]
abbrev dktX10_valueOf_10 : List UInt8 := dkwX10_valueOf_10 ++ []
def dkwX10_valueOf_9 : List UInt8 := [153, 0, 7, 9, 167, 0, 7, 32, 22, 4, 109, 173, 42, 180, 0, 78, 27, 46, 32, 22, 4, 184, 1, 101]
abbrev dktX10_valueOf_9 : List UInt8 := dkwX10_valueOf_9 ++ dktX10_valueOf_10
def dkwX10_valueOf_8 : List UInt8 := [154, 0, 10, 22, 4, 9, 148, 154, 0, 7, 4, 167, 0, 4, 3, 181, 1, 86, 42, 180, 1, 86]
abbrev dktX10_valueOf_8 : List UInt8 := dkwX10_valueOf_8 ++ dktX10_valueOf_9
def dkwX10_valueOf_7 : List UInt8 := [173, 42, 32, 22, 4, 101, 182, 1, 93, 173, 42, 32, 22, 4, 182, 1, 97, 173, 42, 42, 180, 1, 86]
abbrev dktX10_valueOf_7 : List UInt8 := dkwX10_valueOf_7 ++ dktX10_valueOf_8
def dkwX10_valueOf_6 : List UInt8 := [154, 0, 10, 22, 4, 9, 148, 153, 0, 7, 10, 167, 0, 4, 9, 173, 42, 32, 22, 4, 97, 182, 1, 93]
abbrev dktX10_valueOf_6 : List UInt8 := dkwX10_valueOf_6 ++ dktX10_valueOf_7
def dkwX10_valueOf_5 : List UInt8 := [32, 9, 148, 153, 0, 14, 22, 4, 9, 148, 153, 0, 7, 10, 167, 0, 4, 9, 173, 32, 9, 148]
abbrev dktX10_valueOf_5 : List UInt8 := dkwX10_valueOf_5 ++ dktX10_valueOf_6
def dkwX10_valueOf_4 : List UInt8 := [170, 0, 0, 0, 0, 0, 0, 167, 0, 0, 0, 3, 0, 0, 0, 14, 0, 0, 0, 64, 0, 0, 0, 83, 0, 0, 0, 167, 0, 0, 0, 167, 0, 0, 0, 167, 0, 0, 0, 167, 0, 0, 0, 167, 0, 0, 0, 167, 0, 0, 0, 102, 0, 0, 0, 111, 0, 0, 0, 120, 0, 0, 0, 128]
abbrev dktX10_valueOf_4 : List UInt8 := dkwX10_valueOf_4 ++ dktX10_valueOf_5
def dkwX10_valueOf_3 : List UInt8 := [173, 42, 180, 0, 97, 42, 180, 0, 84, 27, 46, 47, 55, 4, 42, 180, 0, 78, 27, 46]
abbrev dktX10_valueOf_3 : List UInt8 := dkwX10_valueOf_3 ++ dktX10_valueOf_4
def dkwX10_valueOf_2 : List UInt8 := [46, 47, 65, 42, 180, 0, 78, 27, 46, 5, 160, 0, 15, 32, 9, 148, 154, 0, 7, 10, 167, 0, 4, 9]
abbrev dktX10_valueOf_2 : List UInt8 := dkwX10_valueOf_2 ++ dktX10_valueOf_3
def dkwX10_valueOf_1 : List UInt8 := [160, 0, 15, 42, 180, 0, 93, 42, 180, 0, 81, 27, 46, 47, 173, 42, 180, 0, 97, 42, 180, 0, 81, 27]
abbrev dktX10_valueOf_1 : List UInt8 := dkwX10_valueOf_1 ++ dktX10_valueOf_2
def dkwX10_valueOf_0 : List UInt8 := [42, 180, 0, 78, 27, 46, 154, 0, 11, 42, 180, 0, 81, 27, 46, 133, 173, 42, 180, 0, 78, 27, 46, 4]
abbrev dktX10_valueOf_0 : List UInt8 := dkwX10_valueOf_0 ++ dktX10_valueOf_1
theorem dksX10_valueOf_0 : cX10_valueOf.data.toList.drop 0 = dktX10_valueOf_0 := by decide +kernel
theorem dksX10_valueOf_1 : cX10_valueOf.data.toList.drop 24 = dktX10_valueOf_1 := dk_seg dksX10_valueOf_0 24 rfl rfl
theorem dksX10_valueOf_2 : cX10_valueOf.data.toList.drop 48 = dktX10_valueOf_2 := dk_seg dksX10_valueOf_1 24 rfl rfl
theorem dksX10_valueOf_3 : cX10_valueOf.data.toList.drop 72 = dktX10_valueOf_3 := dk_seg dksX10_valueOf_2 24 rfl rfl
theorem dksX10_valueOf_4 : cX10_valueOf.data.toList.drop 92 = dktX10_valueOf_4 := dk_seg dksX10_valueOf_3 20 rfl rfl
theorem dksX10_valueOf_5 : cX10_valueOf.data.toList.drop 156 = dktX10_valueOf_5 := dk_seg dksX10_valueOf_4 64 rfl rfl
theorem dksX10_valueOf_6 : cX10_valueOf.data.toList.drop 178 = dktX10_valueOf_6 := dk_seg dksX10_valueOf_5 22 rfl rfl
theorem dksX10_valueOf_7 : cX10_valueOf.data.toList.drop 202 = dktX10_valueOf_7 := dk_seg dksX10_valueOf_6 24 rfl rfl
theorem dksX10_valueOf_8 : cX10_valueOf.data.toList.drop 225 = dktX10_valueOf_8 := dk_seg dksX10_valueOf_7 23 rfl rfl
theorem dksX10_valueOf_9 : cX10_valueOf.data.toList.drop 247 = dktX10_valueOf_9 := dk_seg dksX10_valueOf_8 22 rfl rfl
theorem dksX10_valueOf_10 : cX10_valueOf.data.toList.drop 271 = dktX10_valueOf_10 := dk_seg dksX10_valueOf_9 24 rfl rfl
theorem dX10_valueOf_0 : decode cX10_valueOf 0 = .ok (.aload_n 0, 1) := dk_42 (dk_at dksX10_valueOf_0 0 rfl rfl)
theorem dX10_valueOf_1 : decode cX10_valueOf 1 = .ok (.getfield 78, 3) := dk_180 0 78 (dk_at dksX10_valueOf_0 1 rfl rfl)
theorem dX10_valueOf_4 : decode cX10_valueOf 4 = .ok (.iload_n 1, 1) := dk_27 (dk_at dksX10_valueOf_0 4 rfl rfl)
theorem dX10_valueOf_5 : decode cX10_valueOf 5 = .ok (.iaload, 1) := dk_46 (dk_at dksX10_valueOf_0 5 rfl rfl)
theorem dX10_valueOf_6 : decode cX10_valueOf 6 = .ok (.ifCond .ne 11, 3) := dk_154 0 11 (dk_at dksX10_valueOf_0 6 rfl rfl)
theorem dX10_valueOf_9 : decode cX10_valueOf 9 = .ok (.aload_n 0, 1) := dk_42 (dk_at dksX10_valueOf_0 9 rfl rfl)
theorem dX10_valueOf_10 : decode cX10_valueOf 10 = .ok (.getfield 81, 3) := dk_180 0 81 (dk_at dksX10_valueOf_0 10 rfl rfl)
theorem dX10_valueOf_13 : decode cX10_valueOf 13 = .ok (.iload_n 1, 1) := dk_27 (dk_at dksX10_valueOf_0 13 rfl rfl)
theorem dX10_valueOf_14 : decode cX10_valueOf 14 = .ok (.iaload, 1) := dk_46 (dk_at dksX10_valueOf_0 14 rfl rfl)
theorem dX10_valueOf_15 : decode cX10_valueOf 15 = .ok (.i2l, 1) := dk_133 (dk_at dksX10_valueOf_0 15 rfl rfl)
theorem dX10_valueOf_16 : decode cX10_valueOf 16 = .ok (.lreturn, 1) := dk_173 (dk_at dksX10_valueOf_0 16 rfl rfl)
theorem dX10_valueOf_17 : decode cX10_valueOf 17 = .ok (.aload_n 0, 1) := dk_42 (dk_at dksX10_valueOf_0 17 rfl rfl)
theorem dX10_valueOf_18 : decode cX10_valueOf 18 = .ok (.getfield 78, 3) := dk_180 0 78 (dk_at dksX10_valueOf_0 18 rfl rfl)
theorem dX10_valueOf_21 : decode cX10_valueOf 21 = .ok (.iload_n 1, 1) := dk_27 (dk_at dksX10_valueOf_0 21 rfl rfl)
theorem dX10_valueOf_22 : decode cX10_valueOf 22 = .ok (.iaload, 1) := dk_46 (dk_at dksX10_valueOf_0 22 rfl rfl)
theorem dX10_valueOf_23 : decode cX10_valueOf 23 = .ok (.iconst 1, 1) := dk_4 (dk_at dksX10_valueOf_0 23 rfl rfl)
theorem dX10_valueOf_24 : decode cX10_valueOf 24 = .ok (.if_icmp .ne 15, 3) := dk_160 0 15 (dk_at dksX10_valueOf_1 0 rfl rfl)
theorem dX10_valueOf_27 : decode cX10_valueOf 27 = .ok (.aload_n 0, 1) := dk_42 (dk_at dksX10_valueOf_1 3 rfl rfl)
theorem dX10_valueOf_28 : decode cX10_valueOf 28 = .ok (.getfield 93, 3) := dk_180 0 93 (dk_at dksX10_valueOf_1 4 rfl rfl)
theorem dX10_valueOf_31 : decode cX10_valueOf 31 = .ok (.aload_n 0, 1) := dk_42 (dk_at dksX10_valueOf_1 7 rfl rfl)
theorem dX10_valueOf_32 : decode cX10_valueOf 32 = .ok (.getfield 81, 3) := dk_180 0 81 (dk_at dksX10_valueOf_1 8 rfl rfl)
theorem dX10_valueOf_35 : decode cX10_valueOf 35 = .ok (.iload_n 1, 1) := dk_27 (dk_at dksX10_valueOf_1 11 rfl rfl)
theorem dX10_valueOf_36 : decode cX10_valueOf 36 = .ok (.iaload, 1) := dk_46 (dk_at dksX10_valueOf_1 12 rfl rfl)
theorem dX10_valueOf_37 : decode cX10_valueOf 37 = .ok (.laload, 1) := dk_47 (dk_at dksX10_valueOf_1 13 rfl rfl)
theorem dX10_valueOf_38 : decode cX10_valueOf 38 = .ok (.lreturn, 1) := dk_173 (dk_at dksX10_valueOf_1 14 rfl rfl)
theorem dX10_valueOf_39 : decode cX10_valueOf 39 = .ok (.aload_n 0, 1) := dk_42 (dk_at dksX10_valueOf_1 15 rfl rfl)
theorem dX10_valueOf_40 : decode cX10_valueOf 40 = .ok (.getfield 97, 3) := dk_180 0 97 (dk_at dksX10_valueOf_1 16 rfl rfl)
theorem dX10_valueOf_43 : decode cX10_valueOf 43 = .ok (.aload_n 0, 1) := dk_42 (dk_at dksX10_valueOf_1 19 rfl rfl)
theorem dX10_valueOf_44 : decode cX10_valueOf 44 = .ok (.getfield 81, 3) := dk_180 0 81 (dk_at dksX10_valueOf_1 20 rfl rfl)
theorem dX10_valueOf_47 : decode cX10_valueOf 47 = .ok (.iload_n 1, 1) := dk_27 (dk_at dksX10_valueOf_1 23 rfl rfl)
theorem dX10_valueOf_48 : decode cX10_valueOf 48 = .ok (.iaload, 1) := dk_46 (dk_at dksX10_valueOf_2 0 rfl rfl)
theorem dX10_valueOf_49 : decode cX10_valueOf 49 = .ok (.laload, 1) := dk_47 (dk_at dksX10_valueOf_2 1 rfl rfl)
theorem dX10_valueOf_50 : decode cX10_valueOf 50 = .ok (.lstore_n 2, 1) := dk_65 (dk_at dksX10_valueOf_2 2 rfl rfl)
theorem dX10_valueOf_51 : decode cX10_valueOf 51 = .ok (.aload_n 0, 1) := dk_42 (dk_at dksX10_valueOf_2 3 rfl rfl)
theorem dX10_valueOf_52 : decode cX10_valueOf 52 = .ok (.getfield 78, 3) := dk_180 0 78 (dk_at dksX10_valueOf_2 4 rfl rfl)
theorem dX10_valueOf_55 : decode cX10_valueOf 55 = .ok (.iload_n 1, 1) := dk_27 (dk_at dksX10_valueOf_2 7 rfl rfl)
theorem dX10_valueOf_56 : decode cX10_valueOf 56 = .ok (.iaload, 1) := dk_46 (dk_at dksX10_valueOf_2 8 rfl rfl)
theorem dX10_valueOf_57 : decode cX10_valueOf 57 = .ok (.iconst 2, 1) := dk_5 (dk_at dksX10_valueOf_2 9 rfl rfl)
theorem dX10_valueOf_58 : decode cX10_valueOf 58 = .ok (.if_icmp .ne 15, 3) := dk_160 0 15 (dk_at dksX10_valueOf_2 10 rfl rfl)
theorem dX10_valueOf_61 : decode cX10_valueOf 61 = .ok (.lload_n 2, 1) := dk_32 (dk_at dksX10_valueOf_2 13 rfl rfl)
theorem dX10_valueOf_62 : decode cX10_valueOf 62 = .ok (.lconst 0, 1) := dk_9 (dk_at dksX10_valueOf_2 14 rfl rfl)
theorem dX10_valueOf_63 : decode cX10_valueOf 63 = .ok (.lcmp, 1) := dk_148 (dk_at dksX10_valueOf_2 15 rfl rfl)
theorem dX10_valueOf_64 : decode cX10_valueOf 64 = .ok (.ifCond .ne 7, 3) := dk_154 0 7 (dk_at dksX10_valueOf_2 16 rfl rfl)
theorem dX10_valueOf_67 : decode cX10_valueOf 67 = .ok (.lconst 1, 1) := dk_10 (dk_at dksX10_valueOf_2 19 rfl rfl)
theorem dX10_valueOf_68 : decode cX10_valueOf 68 = .ok (.goto 4, 3) := dk_167 0 4 (dk_at dksX10_valueOf_2 20 rfl rfl)
theorem dX10_valueOf_71 : decode cX10_valueOf 71 = .ok (.lconst 0, 1) := dk_9 (dk_at dksX10_valueOf_2 23 rfl rfl)
theorem dX10_valueOf_72 : decode cX10_valueOf 72 = .ok (.lreturn, 1) := dk_173 (dk_at dksX10_valueOf_3 0 rfl rfl)
theorem dX10_valueOf_73 : decode cX10_valueOf 73 = .ok (.aload_n 0, 1) := dk_42 (dk_at dksX10_valueOf_3 1 rfl rfl)
theorem dX10_valueOf_74 : decode cX10_valueOf 74 = .ok (.getfield 97, 3) := dk_180 0 97 (dk_at dksX10_valueOf_3 2 rfl rfl)
theorem dX10_valueOf_77 : decode cX10_valueOf 77 = .ok (.aload_n 0, 1) := dk_42 (dk_at dksX10_valueOf_3 5 rfl rfl)
theorem dX10_valueOf_78 : decode cX10_valueOf 78 = .ok (.getfield 84, 3) := dk_180 0 84 (dk_at dksX10_valueOf_3 6 rfl rfl)
theorem dX10_valueOf_81 : decode cX10_valueOf 81 = .ok (.iload_n 1, 1) := dk_27 (dk_at dksX10_valueOf_3 9 rfl rfl)
theorem dX10_valueOf_82 : decode cX10_valueOf 82 = .ok (.iaload, 1) := dk_46 (dk_at dksX10_valueOf_3 10 rfl rfl)
theorem dX10_valueOf_83 : decode cX10_valueOf 83 = .ok (.laload, 1) := dk_47 (dk_at dksX10_valueOf_3 11 rfl rfl)
theorem dX10_valueOf_84 : decode cX10_valueOf 84 = .ok (.lstore 4, 2) := dk_55 4 (dk_at dksX10_valueOf_3 12 rfl rfl)
theorem dX10_valueOf_86 : decode cX10_valueOf 86 = .ok (.aload_n 0, 1) := dk_42 (dk_at dksX10_valueOf_3 14 rfl rfl)
theorem dX10_valueOf_87 : decode cX10_valueOf 87 = .ok (.getfield 78, 3) := dk_180 0 78 (dk_at dksX10_valueOf_3 15 rfl rfl)
theorem dX10_valueOf_90 : decode cX10_valueOf 90 = .ok (.iload_n 1, 1) := dk_27 (dk_at dksX10_valueOf_3 18 rfl rfl)
theorem dX10_valueOf_91 : decode cX10_valueOf 91 = .ok (.iaload, 1) := dk_46 (dk_at dksX10_valueOf_3 19 rfl rfl)
theorem dX10_valueOf_92 : decode cX10_valueOf 92 = .ok (.tableswitch 167 3 14 #[64, 83, 167, 167, 167, 167, 167, 167, 102, 111, 120, 128], 64) := by decide +kernel
theorem dX10_valueOf_156 : decode cX10_valueOf 156 = .ok (.lload_n 2, 1) := dk_32 (dk_at dksX10_valueOf_5 0 rfl rfl)
theorem dX10_valueOf_157 : decode cX10_valueOf 157 = .ok (.lconst 0, 1) := dk_9 (dk_at dksX10_valueOf_5 1 rfl rfl)
theorem dX10_valueOf_158 : decode cX10_valueOf 158 = .ok (.lcmp, 1) := dk_148 (dk_at dksX10_valueOf_5 2 rfl rfl)
theorem dX10_valueOf_159 : decode cX10_valueOf 159 = .ok (.ifCond .eq 14, 3) := dk_153 0 14 (dk_at dksX10_valueOf_5 3 rfl rfl)
theorem dX10_valueOf_162 : decode cX10_valueOf 162 = .ok (.lload 4, 2) := dk_22 4 (dk_at dksX10_valueOf_5 6 rfl rfl)
theorem dX10_valueOf_164 : decode cX10_valueOf 164 = .ok (.lconst 0, 1) := dk_9 (dk_at dksX10_valueOf_5 8 rfl rfl)
theorem dX10_valueOf_165 : decode cX10_valueOf 165 = .ok (.lcmp, 1) := dk_148 (dk_at dksX10_valueOf_5 9 rfl rfl)
theorem dX10_valueOf_166 : decode cX10_valueOf 166 = .ok (.ifCond .eq 7, 3) := dk_153 0 7 (dk_at dksX10_valueOf_5 10 rfl rfl)
theorem dX10_valueOf_169 : decode cX10_valueOf 169 = .ok (.lconst 1, 1) := dk_10 (dk_at dksX10_valueOf_5 13 rfl rfl)
theorem dX10_valueOf_170 : decode cX10_valueOf 170 = .ok (.goto 4, 3) := dk_167 0 4 (dk_at dksX10_valueOf_5 14 rfl rfl)
theorem dX10_valueOf_173 : decode cX10_valueOf 173 = .ok (.lconst 0, 1) := dk_9 (dk_at dksX10_valueOf_5 17 rfl rfl)
theorem dX10_valueOf_174 : decode cX10_valueOf 174 = .ok (.lreturn, 1) := dk_173 (dk_at dksX10_valueOf_5 18 rfl rfl)
theorem dX10_valueOf_175 : decode cX10_valueOf 175 = .ok (.lload_n 2, 1) := dk_32 (dk_at dksX10_valueOf_5 19 rfl rfl)
theorem dX10_valueOf_176 : decode cX10_valueOf 176 = .ok (.lconst 0, 1) := dk_9 (dk_at dksX10_valueOf_5 20 rfl rfl)
theorem dX10_valueOf_177 : decode cX10_valueOf 177 = .ok (.lcmp, 1) := dk_148 (dk_at dksX10_valueOf_5 21 rfl rfl)
theorem dX10_valueOf_178 : decode cX10_valueOf 178 = .ok (.ifCond .ne 10, 3) := dk_154 0 10 (dk_at dksX10_valueOf_6 0 rfl rfl)
theorem dX10_valueOf_181 : decode cX10_valueOf 181 = .ok (.lload 4, 2) := dk_22 4 (dk_at dksX10_valueOf_6 3 rfl rfl)
theorem dX10_valueOf_183 : decode cX10_valueOf 183 = .ok (.lconst 0, 1) := dk_9 (dk_at dksX10_valueOf_6 5 rfl rfl)
theorem dX10_valueOf_184 : decode cX10_valueOf 184 = .ok (.lcmp, 1) := dk_148 (dk_at dksX10_valueOf_6 6 rfl rfl)
theorem dX10_valueOf_185 : decode cX10_valueOf 185 = .ok (.ifCond .eq 7, 3) := dk_153 0 7 (dk_at dksX10_valueOf_6 7 rfl rfl)
theorem dX10_valueOf_188 : decode cX10_valueOf 188 = .ok (.lconst 1, 1) := dk_10 (dk_at dksX10_valueOf_6 10 rfl rfl)
theorem dX10_valueOf_189 : decode cX10_valueOf 189 = .ok (.goto 4, 3) := dk_167 0 4 (dk_at dksX10_valueOf_6 11 rfl rfl)
theorem dX10_valueOf_192 : decode cX10_valueOf 192 = .ok (.lconst 0, 1) := dk_9 (dk_at dksX10_valueOf_6 14 rfl rfl)
theorem dX10_valueOf_193 : decode cX10_valueOf 193 = .ok (.lreturn, 1) := dk_173 (dk_at dksX10_valueOf_6 15 rfl rfl)
theorem dX10_valueOf_194 : decode cX10_valueOf 194 = .ok (.aload_n 0, 1) := dk_42 (dk_at dksX10_valueOf_6 16 rfl rfl)
theorem dX10_valueOf_195 : decode cX10_valueOf 195 = .ok (.lload_n 2, 1) := dk_32 (dk_at dksX10_valueOf_6 17 rfl rfl)
theorem dX10_valueOf_196 : decode cX10_valueOf 196 = .ok (.lload 4, 2) := dk_22 4 (dk_at dksX10_valueOf_6 18 rfl rfl)
theorem dX10_valueOf_198 : decode cX10_valueOf 198 = .ok (.ladd, 1) := dk_97 (dk_at dksX10_valueOf_6 20 rfl rfl)
theorem dX10_valueOf_199 : decode cX10_valueOf 199 = .ok (.invokevirtual 349, 3) := dk_182 1 93 (dk_at dksX10_valueOf_6 21 rfl rfl)
theorem dX10_valueOf_202 : decode cX10_valueOf 202 = .ok (.lreturn, 1) := dk_173 (dk_at dksX10_valueOf_7 0 rfl rfl)
theorem dX10_valueOf_203 : decode cX10_valueOf 203 = .ok (.aload_n 0, 1) := dk_42 (dk_at dksX10_valueOf_7 1 rfl rfl)
theorem dX10_valueOf_204 : decode cX10_valueOf 204 = .ok (.lload_n 2, 1) := dk_32 (dk_at dksX10_valueOf_7 2 rfl rfl)
theorem dX10_valueOf_205 : decode cX10_valueOf 205 = .ok (.lload 4, 2) := dk_22 4 (dk_at dksX10_valueOf_7 3 rfl rfl)
theorem dX10_valueOf_207 : decode cX10_valueOf 207 = .ok (.lsub, 1) := dk_101 (dk_at dksX10_valueOf_7 5 rfl rfl)
theorem dX10_valueOf_208 : decode cX10_valueOf 208 = .ok (.invokevirtual 349, 3) := dk_182 1 93 (dk_at dksX10_valueOf_7 6 rfl rfl)
theorem dX10_valueOf_211 : decode cX10_valueOf 211 = .ok (.lreturn, 1) := dk_173 (dk_at dksX10_valueOf_7 9 rfl rfl)
theorem dX10_valueOf_212 : decode cX10_valueOf 212 = .ok (.aload_n 0, 1) := dk_42 (dk_at dksX10_valueOf_7 10 rfl rfl)
theorem dX10_valueOf_213 : decode cX10_valueOf 213 = .ok (.lload_n 2, 1) := dk_32 (dk_at dksX10_valueOf_7 11 rfl rfl)
theorem dX10_valueOf_214 : decode cX10_valueOf 214 = .ok (.lload 4, 2) := dk_22 4 (dk_at dksX10_valueOf_7 12 rfl rfl)
theorem dX10_valueOf_216 : decode cX10_valueOf 216 = .ok (.invokevirtual 353, 3) := dk_182 1 97 (dk_at dksX10_valueOf_7 14 rfl rfl)
theorem dX10_valueOf_219 : decode cX10_valueOf 219 = .ok (.lreturn, 1) := dk_173 (dk_at dksX10_valueOf_7 17 rfl rfl)
theorem dX10_valueOf_220 : decode cX10_valueOf 220 = .ok (.aload_n 0, 1) := dk_42 (dk_at dksX10_valueOf_7 18 rfl rfl)
theorem dX10_valueOf_221 : decode cX10_valueOf 221 = .ok (.aload_n 0, 1) := dk_42 (dk_at dksX10_valueOf_7 19 rfl rfl)
theorem dX10_valueOf_222 : decode cX10_valueOf 222 = .ok (.getfield 342, 3) := dk_180 1 86 (dk_at dksX10_valueOf_7 20 rfl rfl)
theorem dX10_valueOf_225 : decode cX10_valueOf 225 = .ok (.ifCond .ne 10, 3) := dk_154 0 10 (dk_at dksX10_valueOf_8 0 rfl rfl)
theorem dX10_valueOf_228 : decode cX10_valueOf 228 = .ok (.lload 4, 2) := dk_22 4 (dk_at dksX10_valueOf_8 3 rfl rfl)
theorem dX10_valueOf_230 : decode cX10_valueOf 230 = .ok (.lconst 0, 1) := dk_9 (dk_at dksX10_valueOf_8 5 rfl rfl)
theorem dX10_valueOf_231 : decode cX10_valueOf 231 = .ok (.lcmp, 1) := dk_148 (dk_at dksX10_valueOf_8 6 rfl rfl)
theorem dX10_valueOf_232 : decode cX10_valueOf 232 = .ok (.ifCond .ne 7, 3) := dk_154 0 7 (dk_at dksX10_valueOf_8 7 rfl rfl)
theorem dX10_valueOf_235 : decode cX10_valueOf 235 = .ok (.iconst 1, 1) := dk_4 (dk_at dksX10_valueOf_8 10 rfl rfl)
theorem dX10_valueOf_236 : decode cX10_valueOf 236 = .ok (.goto 4, 3) := dk_167 0 4 (dk_at dksX10_valueOf_8 11 rfl rfl)
theorem dX10_valueOf_239 : decode cX10_valueOf 239 = .ok (.iconst 0, 1) := dk_3 (dk_at dksX10_valueOf_8 14 rfl rfl)
theorem dX10_valueOf_240 : decode cX10_valueOf 240 = .ok (.putfield 342, 3) := dk_181 1 86 (dk_at dksX10_valueOf_8 15 rfl rfl)
theorem dX10_valueOf_243 : decode cX10_valueOf 243 = .ok (.aload_n 0, 1) := dk_42 (dk_at dksX10_valueOf_8 18 rfl rfl)
theorem dX10_valueOf_244 : decode cX10_valueOf 244 = .ok (.getfield 342, 3) := dk_180 1 86 (dk_at dksX10_valueOf_8 19 rfl rfl)
theorem dX10_valueOf_247 : decode cX10_valueOf 247 = .ok (.ifCond .eq 7, 3) := dk_153 0 7 (dk_at dksX10_valueOf_9 0 rfl rfl)
theorem dX10_valueOf_250 : decode cX10_valueOf 250 = .ok (.lconst 0, 1) := dk_9 (dk_at dksX10_valueOf_9 3 rfl rfl)
theorem dX10_valueOf_251 : decode cX10_valueOf 251 = .ok (.goto 7, 3) := dk_167 0 7 (dk_at dksX10_valueOf_9 4 rfl rfl)
theorem dX10_valueOf_254 : decode cX10_valueOf 254 = .ok (.lload_n 2, 1) := dk_32 (dk_at dksX10_valueOf_9 7 rfl rfl)
theorem dX10_valueOf_255 : decode cX10_valueOf 255 = .ok (.lload 4, 2) := dk_22 4 (dk_at dksX10_valueOf_9 8 rfl rfl)
theorem dX10_valueOf_257 : decode cX10_valueOf 257 = .ok (.ldiv, 1) := dk_109 (dk_at dksX10_valueOf_9 10 rfl rfl)
theorem dX10_valueOf_258 : decode cX10_valueOf 258 = .ok (.lreturn, 1) := dk_173 (dk_at dksX10_valueOf_9 11 rfl rfl)
theorem dX10_valueOf_259 : decode cX10_valueOf 259 = .ok (.aload_n 0, 1) := dk_42 (dk_at dksX10_valueOf_9 12 rfl rfl)
theorem dX10_valueOf_260 : decode cX10_valueOf 260 = .ok (.getfield 78, 3) := dk_180 0 78 (dk_at dksX10_valueOf_9 13 rfl rfl)
theorem dX10_valueOf_263 : decode cX10_valueOf 263 = .ok (.iload_n 1, 1) := dk_27 (dk_at dksX10_valueOf_9 16 rfl rfl)
theorem dX10_valueOf_264 : decode cX10_valueOf 264 = .ok (.iaload, 1) := dk_46 (dk_at dksX10_valueOf_9 17 rfl rfl)
theorem dX10_valueOf_265 : decode cX10_valueOf 265 = .ok (.lload_n 2, 1) := dk_32 (dk_at dksX10_valueOf_9 18 rfl rfl)
theorem dX10_valueOf_266 : decode cX10_valueOf 266 = .ok (.lload 4, 2) := dk_22 4 (dk_at dksX10_valueOf_9 19 rfl rfl)
theorem dX10_valueOf_268 : decode cX10_valueOf 268 = .ok (.invokestatic 357, 3) := dk_184 1 101 (dk_at dksX10_valueOf_9 21 rfl rfl)
theorem dX10_valueOf_271 : decode cX10_valueOf 271 = .ok (.ifCond .eq 7, 3) := dk_153 0 7 (dk_at dksX10_valueOf_10 0 rfl rfl)
theorem dX10_valueOf_274 : decode cX10_valueOf 274 = .ok (.lconst 1, 1) := dk_10 (dk_at dksX10_valueOf_10 3 rfl rfl)
theorem dX10_valueOf_275 : decode cX10_valueOf 275 = .ok (.goto 4, 3) := dk_167 0 4 (dk_at dksX10_valueOf_10 4 rfl rfl)
theorem dX10_valueOf_278 : decode cX10_valueOf 278 = .ok (.lconst 0, 1) := dk_9 (dk_at dksX10_valueOf_10 7 rfl rfl)
theorem dX10_valueOf_279 : decode cX10_valueOf 279 = .ok (.lreturn, 1) := dk_173 (dk_at dksX10_valueOf_10 8 rfl rfl)
def dkwX10_bounded_1 : List UInt8 := [4, 167, 0, 4, 3, 181, 1, 86, 42, 180, 1, 86, 153, 0, 7, 9, 167, 0, 4, 31, 173]
abbrev dktX10_bounded_1 : List UInt8 := dkwX10_bounded_1 ++ []
def dkwX10_bounded_0 : List UInt8 := [42, 42, 180, 1, 86, 154, 0, 19, 31, 20, 1, 89, 148, 157, 0, 11, 31, 20, 1, 91, 148, 156, 0, 7]
abbrev dktX10_bounded_0 : List UInt8 := dkwX10_bounded_0 ++ dktX10_bounded_1
theorem dksX10_bounded_0 : cX10_bounded.data.toList.drop 0 = dktX10_bounded_0 := by decide +kernel
theorem dksX10_bounded_1 : cX10_bounded.data.toList.drop 24 = dktX10_bounded_1 := dk_seg dksX10_bounded_0 24 rfl rfl
theorem dX10_bounded_0 : decode cX10_bounded 0 = .ok (.aload_n 0, 1) := dk_42 (dk_at dksX10_bounded_0 0 rfl rfl)
theorem dX10_bounded_1 : decode cX10_bounded 1 = .ok (.aload_n 0, 1) := dk_42 (dk_at dksX10_bounded_0 1 rfl rfl)
theorem dX10_bounded_2 : decode cX10_bounded 2 = .ok (.getfield 342, 3) := dk_180 1 86 (dk_at dksX10_bounded_0 2 rfl rfl)
theorem dX10_bounded_5 : decode cX10_bounded 5 = .ok (.ifCond .ne 19, 3) := dk_154 0 19 (dk_at dksX10_bounded_0 5 rfl rfl)
theorem dX10_bounded_8 : decode cX10_bounded 8 = .ok (.lload_n 1, 1) := dk_31 (dk_at dksX10_bounded_0 8 rfl rfl)
theorem dX10_bounded_9 : decode cX10_bounded 9 = .ok (.ldc2_w 345, 3) := dk_20 1 89 (dk_at dksX10_bounded_0 9 rfl rfl)
theorem dX10_bounded_12 : decode cX10_bounded 12 = .ok (.lcmp, 1) := dk_148 (dk_at dksX10_bounded_0 12 rfl rfl)
theorem dX10_bounded_13 : decode cX10_bounded 13 = .ok (.ifCond .gt 11, 3) := dk_157 0 11 (dk_at dksX10_bounded_0 13 rfl rfl)
theorem dX10_bounded_16 : decode cX10_bounded 16 = .ok (.lload_n 1, 1) := dk_31 (dk_at dksX10_bounded_0 16 rfl rfl)
theorem dX10_bounded_17 : decode cX10_bounded 17 = .ok (.ldc2_w 347, 3) := dk_20 1 91 (dk_at dksX10_bounded_0 17 rfl rfl)
theorem dX10_bounded_20 : decode cX10_bounded 20 = .ok (.lcmp, 1) := dk_148 (dk_at dksX10_bounded_0 20 rfl rfl)
theorem dX10_bounded_21 : decode cX10_bounded 21 = .ok (.ifCond .ge 7, 3) := dk_156 0 7 (dk_at dksX10_bounded_0 21 rfl rfl)
theorem dX10_bounded_24 : decode cX10_bounded 24 = .ok (.iconst 1, 1) := dk_4 (dk_at dksX10_bounded_1 0 rfl rfl)
theorem dX10_bounded_25 : decode cX10_bounded 25 = .ok (.goto 4, 3) := dk_167 0 4 (dk_at dksX10_bounded_1 1 rfl rfl)
theorem dX10_bounded_28 : decode cX10_bounded 28 = .ok (.iconst 0, 1) := dk_3 (dk_at dksX10_bounded_1 4 rfl rfl)
theorem dX10_bounded_29 : decode cX10_bounded 29 = .ok (.putfield 342, 3) := dk_181 1 86 (dk_at dksX10_bounded_1 5 rfl rfl)
theorem dX10_bounded_32 : decode cX10_bounded 32 = .ok (.aload_n 0, 1) := dk_42 (dk_at dksX10_bounded_1 8 rfl rfl)
theorem dX10_bounded_33 : decode cX10_bounded 33 = .ok (.getfield 342, 3) := dk_180 1 86 (dk_at dksX10_bounded_1 9 rfl rfl)
theorem dX10_bounded_36 : decode cX10_bounded 36 = .ok (.ifCond .eq 7, 3) := dk_153 0 7 (dk_at dksX10_bounded_1 12 rfl rfl)
theorem dX10_bounded_39 : decode cX10_bounded 39 = .ok (.lconst 0, 1) := dk_9 (dk_at dksX10_bounded_1 15 rfl rfl)
theorem dX10_bounded_40 : decode cX10_bounded 40 = .ok (.goto 4, 3) := dk_167 0 4 (dk_at dksX10_bounded_1 16 rfl rfl)
theorem dX10_bounded_43 : decode cX10_bounded 43 = .ok (.lload_n 1, 1) := dk_31 (dk_at dksX10_bounded_1 19 rfl rfl)
theorem dX10_bounded_44 : decode cX10_bounded 44 = .ok (.lreturn, 1) := dk_173 (dk_at dksX10_bounded_1 20 rfl rfl)
def dkwX10_times_3 : List UInt8 := [42, 180, 1, 86, 153, 0, 7, 9, 167, 0, 6, 31, 33, 105, 173]
abbrev dktX10_times_3 : List UInt8 := dkwX10_times_3 ++ []
def dkwX10_times_2 : List UInt8 := [3, 54, 5, 42, 42, 180, 1, 86, 154, 0, 8, 21, 5, 153, 0, 7, 4, 167, 0, 4, 3, 181, 1, 86]
abbrev dktX10_times_2 : List UInt8 := dkwX10_times_2 ++ dktX10_times_3
def dkwX10_times_1 : List UInt8 := [20, 1, 89, 31, 9, 148, 156, 0, 8, 31, 117, 167, 0, 4, 31, 109, 148, 158, 0, 7, 4, 167, 0, 4]
abbrev dktX10_times_1 : List UInt8 := dkwX10_times_1 ++ dktX10_times_2
def dkwX10_times_0 : List UInt8 := [31, 9, 148, 153, 0, 45, 33, 9, 148, 153, 0, 39, 33, 9, 148, 156, 0, 8, 33, 117, 167, 0, 4, 33]
abbrev dktX10_times_0 : List UInt8 := dkwX10_times_0 ++ dktX10_times_1
theorem dksX10_times_0 : cX10_times.data.toList.drop 0 = dktX10_times_0 := by decide +kernel
theorem dksX10_times_1 : cX10_times.data.toList.drop 24 = dktX10_times_1 := dk_seg dksX10_times_0 24 rfl rfl
theorem dksX10_times_2 : cX10_times.data.toList.drop 48 = dktX10_times_2 := dk_seg dksX10_times_1 24 rfl rfl
theorem dksX10_times_3 : cX10_times.data.toList.drop 72 = dktX10_times_3 := dk_seg dksX10_times_2 24 rfl rfl
theorem dX10_times_0 : decode cX10_times 0 = .ok (.lload_n 1, 1) := dk_31 (dk_at dksX10_times_0 0 rfl rfl)
theorem dX10_times_1 : decode cX10_times 1 = .ok (.lconst 0, 1) := dk_9 (dk_at dksX10_times_0 1 rfl rfl)
theorem dX10_times_2 : decode cX10_times 2 = .ok (.lcmp, 1) := dk_148 (dk_at dksX10_times_0 2 rfl rfl)
theorem dX10_times_3 : decode cX10_times 3 = .ok (.ifCond .eq 45, 3) := dk_153 0 45 (dk_at dksX10_times_0 3 rfl rfl)
theorem dX10_times_6 : decode cX10_times 6 = .ok (.lload_n 3, 1) := dk_33 (dk_at dksX10_times_0 6 rfl rfl)
theorem dX10_times_7 : decode cX10_times 7 = .ok (.lconst 0, 1) := dk_9 (dk_at dksX10_times_0 7 rfl rfl)
theorem dX10_times_8 : decode cX10_times 8 = .ok (.lcmp, 1) := dk_148 (dk_at dksX10_times_0 8 rfl rfl)
theorem dX10_times_9 : decode cX10_times 9 = .ok (.ifCond .eq 39, 3) := dk_153 0 39 (dk_at dksX10_times_0 9 rfl rfl)
theorem dX10_times_12 : decode cX10_times 12 = .ok (.lload_n 3, 1) := dk_33 (dk_at dksX10_times_0 12 rfl rfl)
theorem dX10_times_13 : decode cX10_times 13 = .ok (.lconst 0, 1) := dk_9 (dk_at dksX10_times_0 13 rfl rfl)
theorem dX10_times_14 : decode cX10_times 14 = .ok (.lcmp, 1) := dk_148 (dk_at dksX10_times_0 14 rfl rfl)
theorem dX10_times_15 : decode cX10_times 15 = .ok (.ifCond .ge 8, 3) := dk_156 0 8 (dk_at dksX10_times_0 15 rfl rfl)
theorem dX10_times_18 : decode cX10_times 18 = .ok (.lload_n 3, 1) := dk_33 (dk_at dksX10_times_0 18 rfl rfl)
theorem dX10_times_19 : decode cX10_times 19 = .ok (.lneg, 1) := dk_117 (dk_at dksX10_times_0 19 rfl rfl)
theorem dX10_times_20 : decode cX10_times 20 = .ok (.goto 4, 3) := dk_167 0 4 (dk_at dksX10_times_0 20 rfl rfl)
theorem dX10_times_23 : decode cX10_times 23 = .ok (.lload_n 3, 1) := dk_33 (dk_at dksX10_times_0 23 rfl rfl)
theorem dX10_times_24 : decode cX10_times 24 = .ok (.ldc2_w 345, 3) := dk_20 1 89 (dk_at dksX10_times_1 0 rfl rfl)
theorem dX10_times_27 : decode cX10_times 27 = .ok (.lload_n 1, 1) := dk_31 (dk_at dksX10_times_1 3 rfl rfl)
theorem dX10_times_28 : decode cX10_times 28 = .ok (.lconst 0, 1) := dk_9 (dk_at dksX10_times_1 4 rfl rfl)
theorem dX10_times_29 : decode cX10_times 29 = .ok (.lcmp, 1) := dk_148 (dk_at dksX10_times_1 5 rfl rfl)
theorem dX10_times_30 : decode cX10_times 30 = .ok (.ifCond .ge 8, 3) := dk_156 0 8 (dk_at dksX10_times_1 6 rfl rfl)
theorem dX10_times_33 : decode cX10_times 33 = .ok (.lload_n 1, 1) := dk_31 (dk_at dksX10_times_1 9 rfl rfl)
theorem dX10_times_34 : decode cX10_times 34 = .ok (.lneg, 1) := dk_117 (dk_at dksX10_times_1 10 rfl rfl)
theorem dX10_times_35 : decode cX10_times 35 = .ok (.goto 4, 3) := dk_167 0 4 (dk_at dksX10_times_1 11 rfl rfl)
theorem dX10_times_38 : decode cX10_times 38 = .ok (.lload_n 1, 1) := dk_31 (dk_at dksX10_times_1 14 rfl rfl)
theorem dX10_times_39 : decode cX10_times 39 = .ok (.ldiv, 1) := dk_109 (dk_at dksX10_times_1 15 rfl rfl)
theorem dX10_times_40 : decode cX10_times 40 = .ok (.lcmp, 1) := dk_148 (dk_at dksX10_times_1 16 rfl rfl)
theorem dX10_times_41 : decode cX10_times 41 = .ok (.ifCond .le 7, 3) := dk_158 0 7 (dk_at dksX10_times_1 17 rfl rfl)
theorem dX10_times_44 : decode cX10_times 44 = .ok (.iconst 1, 1) := dk_4 (dk_at dksX10_times_1 20 rfl rfl)
theorem dX10_times_45 : decode cX10_times 45 = .ok (.goto 4, 3) := dk_167 0 4 (dk_at dksX10_times_1 21 rfl rfl)
theorem dX10_times_48 : decode cX10_times 48 = .ok (.iconst 0, 1) := dk_3 (dk_at dksX10_times_2 0 rfl rfl)
theorem dX10_times_49 : decode cX10_times 49 = .ok (.istore 5, 2) := dk_54 5 (dk_at dksX10_times_2 1 rfl rfl)
theorem dX10_times_51 : decode cX10_times 51 = .ok (.aload_n 0, 1) := dk_42 (dk_at dksX10_times_2 3 rfl rfl)
theorem dX10_times_52 : decode cX10_times 52 = .ok (.aload_n 0, 1) := dk_42 (dk_at dksX10_times_2 4 rfl rfl)
theorem dX10_times_53 : decode cX10_times 53 = .ok (.getfield 342, 3) := dk_180 1 86 (dk_at dksX10_times_2 5 rfl rfl)
theorem dX10_times_56 : decode cX10_times 56 = .ok (.ifCond .ne 8, 3) := dk_154 0 8 (dk_at dksX10_times_2 8 rfl rfl)
theorem dX10_times_59 : decode cX10_times 59 = .ok (.iload 5, 2) := dk_21 5 (dk_at dksX10_times_2 11 rfl rfl)
theorem dX10_times_61 : decode cX10_times 61 = .ok (.ifCond .eq 7, 3) := dk_153 0 7 (dk_at dksX10_times_2 13 rfl rfl)
theorem dX10_times_64 : decode cX10_times 64 = .ok (.iconst 1, 1) := dk_4 (dk_at dksX10_times_2 16 rfl rfl)
theorem dX10_times_65 : decode cX10_times 65 = .ok (.goto 4, 3) := dk_167 0 4 (dk_at dksX10_times_2 17 rfl rfl)
theorem dX10_times_68 : decode cX10_times 68 = .ok (.iconst 0, 1) := dk_3 (dk_at dksX10_times_2 20 rfl rfl)
theorem dX10_times_69 : decode cX10_times 69 = .ok (.putfield 342, 3) := dk_181 1 86 (dk_at dksX10_times_2 21 rfl rfl)
theorem dX10_times_72 : decode cX10_times 72 = .ok (.aload_n 0, 1) := dk_42 (dk_at dksX10_times_3 0 rfl rfl)
theorem dX10_times_73 : decode cX10_times 73 = .ok (.getfield 342, 3) := dk_180 1 86 (dk_at dksX10_times_3 1 rfl rfl)
theorem dX10_times_76 : decode cX10_times 76 = .ok (.ifCond .eq 7, 3) := dk_153 0 7 (dk_at dksX10_times_3 4 rfl rfl)
theorem dX10_times_79 : decode cX10_times 79 = .ok (.lconst 0, 1) := dk_9 (dk_at dksX10_times_3 7 rfl rfl)
theorem dX10_times_80 : decode cX10_times 80 = .ok (.goto 6, 3) := dk_167 0 6 (dk_at dksX10_times_3 8 rfl rfl)
theorem dX10_times_83 : decode cX10_times 83 = .ok (.lload_n 1, 1) := dk_31 (dk_at dksX10_times_3 11 rfl rfl)
theorem dX10_times_84 : decode cX10_times 84 = .ok (.lload_n 3, 1) := dk_33 (dk_at dksX10_times_3 12 rfl rfl)
theorem dX10_times_85 : decode cX10_times 85 = .ok (.lmul, 1) := dk_105 (dk_at dksX10_times_3 13 rfl rfl)
theorem dX10_times_86 : decode cX10_times 86 = .ok (.lreturn, 1) := dk_173 (dk_at dksX10_times_3 14 rfl rfl)
def dkwX10_compares_4 : List UInt8 := [31, 33, 148, 155, 0, 7, 4, 167, 0, 4, 3, 172, 31, 33, 148, 158, 0, 7, 4, 167, 0, 4, 3, 172]
abbrev dktX10_compares_4 : List UInt8 := dkwX10_compares_4 ++ []
def dkwX10_compares_3 : List UInt8 := [31, 33, 148, 154, 0, 7, 4, 167, 0, 4, 3, 172, 31, 33, 148, 153, 0, 7, 4, 167, 0, 4, 3, 172]
abbrev dktX10_compares_3 : List UInt8 := dkwX10_compares_3 ++ dktX10_compares_4
def dkwX10_compares_2 : List UInt8 := [31, 33, 148, 156, 0, 7, 4, 167, 0, 4, 3, 172, 31, 33, 148, 157, 0, 7, 4, 167, 0, 4, 3, 172]
abbrev dktX10_compares_2 : List UInt8 := dkwX10_compares_2 ++ dktX10_compares_3
def dkwX10_compares_1 : List UInt8 := [170, 0, 0, 0, 0, 0, 95, 0, 0, 0, 5, 0, 0, 0, 9, 0, 0, 0, 35, 0, 0, 0, 47, 0, 0, 0, 59, 0, 0, 0, 71, 0, 0, 0, 83]
abbrev dktX10_compares_1 : List UInt8 := dkwX10_compares_1 ++ dktX10_compares_2
def dkwX10_compares_0 : List UInt8 := [26]
abbrev dktX10_compares_0 : List UInt8 := dkwX10_compares_0 ++ dktX10_compares_1
theorem dksX10_compares_0 : cX10_compares.data.toList.drop 0 = dktX10_compares_0 := by decide +kernel
theorem dksX10_compares_1 : cX10_compares.data.toList.drop 1 = dktX10_compares_1 := dk_seg dksX10_compares_0 1 rfl rfl
theorem dksX10_compares_2 : cX10_compares.data.toList.drop 36 = dktX10_compares_2 := dk_seg dksX10_compares_1 35 rfl rfl
theorem dksX10_compares_3 : cX10_compares.data.toList.drop 60 = dktX10_compares_3 := dk_seg dksX10_compares_2 24 rfl rfl
theorem dksX10_compares_4 : cX10_compares.data.toList.drop 84 = dktX10_compares_4 := dk_seg dksX10_compares_3 24 rfl rfl
theorem dX10_compares_0 : decode cX10_compares 0 = .ok (.iload_n 0, 1) := dk_26 (dk_at dksX10_compares_0 0 rfl rfl)
theorem dX10_compares_1 : decode cX10_compares 1 = .ok (.tableswitch 95 5 9 #[35, 47, 59, 71, 83], 35) := by decide +kernel
theorem dX10_compares_36 : decode cX10_compares 36 = .ok (.lload_n 1, 1) := dk_31 (dk_at dksX10_compares_2 0 rfl rfl)
theorem dX10_compares_37 : decode cX10_compares 37 = .ok (.lload_n 3, 1) := dk_33 (dk_at dksX10_compares_2 1 rfl rfl)
theorem dX10_compares_38 : decode cX10_compares 38 = .ok (.lcmp, 1) := dk_148 (dk_at dksX10_compares_2 2 rfl rfl)
theorem dX10_compares_39 : decode cX10_compares 39 = .ok (.ifCond .ge 7, 3) := dk_156 0 7 (dk_at dksX10_compares_2 3 rfl rfl)
theorem dX10_compares_42 : decode cX10_compares 42 = .ok (.iconst 1, 1) := dk_4 (dk_at dksX10_compares_2 6 rfl rfl)
theorem dX10_compares_43 : decode cX10_compares 43 = .ok (.goto 4, 3) := dk_167 0 4 (dk_at dksX10_compares_2 7 rfl rfl)
theorem dX10_compares_46 : decode cX10_compares 46 = .ok (.iconst 0, 1) := dk_3 (dk_at dksX10_compares_2 10 rfl rfl)
theorem dX10_compares_47 : decode cX10_compares 47 = .ok (.ireturn, 1) := dk_172 (dk_at dksX10_compares_2 11 rfl rfl)
theorem dX10_compares_48 : decode cX10_compares 48 = .ok (.lload_n 1, 1) := dk_31 (dk_at dksX10_compares_2 12 rfl rfl)
theorem dX10_compares_49 : decode cX10_compares 49 = .ok (.lload_n 3, 1) := dk_33 (dk_at dksX10_compares_2 13 rfl rfl)
theorem dX10_compares_50 : decode cX10_compares 50 = .ok (.lcmp, 1) := dk_148 (dk_at dksX10_compares_2 14 rfl rfl)
theorem dX10_compares_51 : decode cX10_compares 51 = .ok (.ifCond .gt 7, 3) := dk_157 0 7 (dk_at dksX10_compares_2 15 rfl rfl)
theorem dX10_compares_54 : decode cX10_compares 54 = .ok (.iconst 1, 1) := dk_4 (dk_at dksX10_compares_2 18 rfl rfl)
theorem dX10_compares_55 : decode cX10_compares 55 = .ok (.goto 4, 3) := dk_167 0 4 (dk_at dksX10_compares_2 19 rfl rfl)
theorem dX10_compares_58 : decode cX10_compares 58 = .ok (.iconst 0, 1) := dk_3 (dk_at dksX10_compares_2 22 rfl rfl)
theorem dX10_compares_59 : decode cX10_compares 59 = .ok (.ireturn, 1) := dk_172 (dk_at dksX10_compares_2 23 rfl rfl)
theorem dX10_compares_60 : decode cX10_compares 60 = .ok (.lload_n 1, 1) := dk_31 (dk_at dksX10_compares_3 0 rfl rfl)
theorem dX10_compares_61 : decode cX10_compares 61 = .ok (.lload_n 3, 1) := dk_33 (dk_at dksX10_compares_3 1 rfl rfl)
theorem dX10_compares_62 : decode cX10_compares 62 = .ok (.lcmp, 1) := dk_148 (dk_at dksX10_compares_3 2 rfl rfl)
theorem dX10_compares_63 : decode cX10_compares 63 = .ok (.ifCond .ne 7, 3) := dk_154 0 7 (dk_at dksX10_compares_3 3 rfl rfl)
theorem dX10_compares_66 : decode cX10_compares 66 = .ok (.iconst 1, 1) := dk_4 (dk_at dksX10_compares_3 6 rfl rfl)
theorem dX10_compares_67 : decode cX10_compares 67 = .ok (.goto 4, 3) := dk_167 0 4 (dk_at dksX10_compares_3 7 rfl rfl)
theorem dX10_compares_70 : decode cX10_compares 70 = .ok (.iconst 0, 1) := dk_3 (dk_at dksX10_compares_3 10 rfl rfl)
theorem dX10_compares_71 : decode cX10_compares 71 = .ok (.ireturn, 1) := dk_172 (dk_at dksX10_compares_3 11 rfl rfl)
theorem dX10_compares_72 : decode cX10_compares 72 = .ok (.lload_n 1, 1) := dk_31 (dk_at dksX10_compares_3 12 rfl rfl)
theorem dX10_compares_73 : decode cX10_compares 73 = .ok (.lload_n 3, 1) := dk_33 (dk_at dksX10_compares_3 13 rfl rfl)
theorem dX10_compares_74 : decode cX10_compares 74 = .ok (.lcmp, 1) := dk_148 (dk_at dksX10_compares_3 14 rfl rfl)
theorem dX10_compares_75 : decode cX10_compares 75 = .ok (.ifCond .eq 7, 3) := dk_153 0 7 (dk_at dksX10_compares_3 15 rfl rfl)
theorem dX10_compares_78 : decode cX10_compares 78 = .ok (.iconst 1, 1) := dk_4 (dk_at dksX10_compares_3 18 rfl rfl)
theorem dX10_compares_79 : decode cX10_compares 79 = .ok (.goto 4, 3) := dk_167 0 4 (dk_at dksX10_compares_3 19 rfl rfl)
theorem dX10_compares_82 : decode cX10_compares 82 = .ok (.iconst 0, 1) := dk_3 (dk_at dksX10_compares_3 22 rfl rfl)
theorem dX10_compares_83 : decode cX10_compares 83 = .ok (.ireturn, 1) := dk_172 (dk_at dksX10_compares_3 23 rfl rfl)
theorem dX10_compares_84 : decode cX10_compares 84 = .ok (.lload_n 1, 1) := dk_31 (dk_at dksX10_compares_4 0 rfl rfl)
theorem dX10_compares_85 : decode cX10_compares 85 = .ok (.lload_n 3, 1) := dk_33 (dk_at dksX10_compares_4 1 rfl rfl)
theorem dX10_compares_86 : decode cX10_compares 86 = .ok (.lcmp, 1) := dk_148 (dk_at dksX10_compares_4 2 rfl rfl)
theorem dX10_compares_87 : decode cX10_compares 87 = .ok (.ifCond .lt 7, 3) := dk_155 0 7 (dk_at dksX10_compares_4 3 rfl rfl)
theorem dX10_compares_90 : decode cX10_compares 90 = .ok (.iconst 1, 1) := dk_4 (dk_at dksX10_compares_4 6 rfl rfl)
theorem dX10_compares_91 : decode cX10_compares 91 = .ok (.goto 4, 3) := dk_167 0 4 (dk_at dksX10_compares_4 7 rfl rfl)
theorem dX10_compares_94 : decode cX10_compares 94 = .ok (.iconst 0, 1) := dk_3 (dk_at dksX10_compares_4 10 rfl rfl)
theorem dX10_compares_95 : decode cX10_compares 95 = .ok (.ireturn, 1) := dk_172 (dk_at dksX10_compares_4 11 rfl rfl)
theorem dX10_compares_96 : decode cX10_compares 96 = .ok (.lload_n 1, 1) := dk_31 (dk_at dksX10_compares_4 12 rfl rfl)
theorem dX10_compares_97 : decode cX10_compares 97 = .ok (.lload_n 3, 1) := dk_33 (dk_at dksX10_compares_4 13 rfl rfl)
theorem dX10_compares_98 : decode cX10_compares 98 = .ok (.lcmp, 1) := dk_148 (dk_at dksX10_compares_4 14 rfl rfl)
theorem dX10_compares_99 : decode cX10_compares 99 = .ok (.ifCond .le 7, 3) := dk_158 0 7 (dk_at dksX10_compares_4 15 rfl rfl)
theorem dX10_compares_102 : decode cX10_compares 102 = .ok (.iconst 1, 1) := dk_4 (dk_at dksX10_compares_4 18 rfl rfl)
theorem dX10_compares_103 : decode cX10_compares 103 = .ok (.goto 4, 3) := dk_167 0 4 (dk_at dksX10_compares_4 19 rfl rfl)
theorem dX10_compares_106 : decode cX10_compares 106 = .ok (.iconst 0, 1) := dk_3 (dk_at dksX10_compares_4 22 rfl rfl)
theorem dX10_compares_107 : decode cX10_compares 107 = .ok (.ireturn, 1) := dk_172 (dk_at dksX10_compares_4 23 rfl rfl)
def dkwX10_ask_4 : List UInt8 := [153, 0, 7, 4, 167, 0, 4, 3, 172]
abbrev dktX10_ask_4 : List UInt8 := dkwX10_ask_4 ++ []
def dkwX10_ask_3 : List UInt8 := [182, 1, 205, 54, 4, 42, 3, 181, 1, 127, 42, 89, 180, 1, 108, 4, 96, 181, 1, 108, 21, 4]
abbrev dktX10_ask_3 : List UInt8 := dkwX10_ask_3 ++ dktX10_ask_4
def dkwX10_ask_2 : List UInt8 := [182, 1, 196, 154, 0, 6, 16, 254, 172, 42, 182, 1, 202, 42, 4, 181, 1, 127, 42, 3, 27, 28, 29]
abbrev dktX10_ask_2 : List UInt8 := dkwX10_ask_2 ++ dktX10_ask_3
def dkwX10_ask_1 : List UInt8 := [159, 0, 11, 42, 29, 182, 1, 193, 154, 0, 5, 2, 172, 42, 182, 1, 115, 42, 3, 27, 28, 29]
abbrev dktX10_ask_1 : List UInt8 := dkwX10_ask_1 ++ dktX10_ask_2
def dkwX10_ask_0 : List UInt8 := [42, 3, 181, 0, 148, 42, 27, 182, 1, 187, 153, 0, 24, 42, 28, 182, 1, 187, 153, 0, 16, 27, 28]
abbrev dktX10_ask_0 : List UInt8 := dkwX10_ask_0 ++ dktX10_ask_1
theorem dksX10_ask_0 : cX10_ask.data.toList.drop 0 = dktX10_ask_0 := by decide +kernel
theorem dksX10_ask_1 : cX10_ask.data.toList.drop 23 = dktX10_ask_1 := dk_seg dksX10_ask_0 23 rfl rfl
theorem dksX10_ask_2 : cX10_ask.data.toList.drop 45 = dktX10_ask_2 := dk_seg dksX10_ask_1 22 rfl rfl
theorem dksX10_ask_3 : cX10_ask.data.toList.drop 68 = dktX10_ask_3 := dk_seg dksX10_ask_2 23 rfl rfl
theorem dksX10_ask_4 : cX10_ask.data.toList.drop 90 = dktX10_ask_4 := dk_seg dksX10_ask_3 22 rfl rfl
theorem dX10_ask_0 : decode cX10_ask 0 = .ok (.aload_n 0, 1) := dk_42 (dk_at dksX10_ask_0 0 rfl rfl)
theorem dX10_ask_1 : decode cX10_ask 1 = .ok (.iconst 0, 1) := dk_3 (dk_at dksX10_ask_0 1 rfl rfl)
theorem dX10_ask_2 : decode cX10_ask 2 = .ok (.putfield 148, 3) := dk_181 0 148 (dk_at dksX10_ask_0 2 rfl rfl)
theorem dX10_ask_5 : decode cX10_ask 5 = .ok (.aload_n 0, 1) := dk_42 (dk_at dksX10_ask_0 5 rfl rfl)
theorem dX10_ask_6 : decode cX10_ask 6 = .ok (.iload_n 1, 1) := dk_27 (dk_at dksX10_ask_0 6 rfl rfl)
theorem dX10_ask_7 : decode cX10_ask 7 = .ok (.invokevirtual 443, 3) := dk_182 1 187 (dk_at dksX10_ask_0 7 rfl rfl)
theorem dX10_ask_10 : decode cX10_ask 10 = .ok (.ifCond .eq 24, 3) := dk_153 0 24 (dk_at dksX10_ask_0 10 rfl rfl)
theorem dX10_ask_13 : decode cX10_ask 13 = .ok (.aload_n 0, 1) := dk_42 (dk_at dksX10_ask_0 13 rfl rfl)
theorem dX10_ask_14 : decode cX10_ask 14 = .ok (.iload_n 2, 1) := dk_28 (dk_at dksX10_ask_0 14 rfl rfl)
theorem dX10_ask_15 : decode cX10_ask 15 = .ok (.invokevirtual 443, 3) := dk_182 1 187 (dk_at dksX10_ask_0 15 rfl rfl)
theorem dX10_ask_18 : decode cX10_ask 18 = .ok (.ifCond .eq 16, 3) := dk_153 0 16 (dk_at dksX10_ask_0 18 rfl rfl)
theorem dX10_ask_21 : decode cX10_ask 21 = .ok (.iload_n 1, 1) := dk_27 (dk_at dksX10_ask_0 21 rfl rfl)
theorem dX10_ask_22 : decode cX10_ask 22 = .ok (.iload_n 2, 1) := dk_28 (dk_at dksX10_ask_0 22 rfl rfl)
theorem dX10_ask_23 : decode cX10_ask 23 = .ok (.if_icmp .eq 11, 3) := dk_159 0 11 (dk_at dksX10_ask_1 0 rfl rfl)
theorem dX10_ask_26 : decode cX10_ask 26 = .ok (.aload_n 0, 1) := dk_42 (dk_at dksX10_ask_1 3 rfl rfl)
theorem dX10_ask_27 : decode cX10_ask 27 = .ok (.iload_n 3, 1) := dk_29 (dk_at dksX10_ask_1 4 rfl rfl)
theorem dX10_ask_28 : decode cX10_ask 28 = .ok (.invokevirtual 449, 3) := dk_182 1 193 (dk_at dksX10_ask_1 5 rfl rfl)
theorem dX10_ask_31 : decode cX10_ask 31 = .ok (.ifCond .ne 5, 3) := dk_154 0 5 (dk_at dksX10_ask_1 8 rfl rfl)
theorem dX10_ask_34 : decode cX10_ask 34 = .ok (.iconst (-1), 1) := dk_2 (dk_at dksX10_ask_1 11 rfl rfl)
theorem dX10_ask_35 : decode cX10_ask 35 = .ok (.ireturn, 1) := dk_172 (dk_at dksX10_ask_1 12 rfl rfl)
theorem dX10_ask_36 : decode cX10_ask 36 = .ok (.aload_n 0, 1) := dk_42 (dk_at dksX10_ask_1 13 rfl rfl)
theorem dX10_ask_37 : decode cX10_ask 37 = .ok (.invokevirtual 371, 3) := dk_182 1 115 (dk_at dksX10_ask_1 14 rfl rfl)
theorem dX10_ask_40 : decode cX10_ask 40 = .ok (.aload_n 0, 1) := dk_42 (dk_at dksX10_ask_1 17 rfl rfl)
theorem dX10_ask_41 : decode cX10_ask 41 = .ok (.iconst 0, 1) := dk_3 (dk_at dksX10_ask_1 18 rfl rfl)
theorem dX10_ask_42 : decode cX10_ask 42 = .ok (.iload_n 1, 1) := dk_27 (dk_at dksX10_ask_1 19 rfl rfl)
theorem dX10_ask_43 : decode cX10_ask 43 = .ok (.iload_n 2, 1) := dk_28 (dk_at dksX10_ask_1 20 rfl rfl)
theorem dX10_ask_44 : decode cX10_ask 44 = .ok (.iload_n 3, 1) := dk_29 (dk_at dksX10_ask_1 21 rfl rfl)
theorem dX10_ask_45 : decode cX10_ask 45 = .ok (.invokevirtual 452, 3) := dk_182 1 196 (dk_at dksX10_ask_2 0 rfl rfl)
theorem dX10_ask_48 : decode cX10_ask 48 = .ok (.ifCond .ne 6, 3) := dk_154 0 6 (dk_at dksX10_ask_2 3 rfl rfl)
theorem dX10_ask_51 : decode cX10_ask 51 = .ok (.bipush (-2), 2) := dk_16 254 (dk_at dksX10_ask_2 6 rfl rfl)
theorem dX10_ask_53 : decode cX10_ask 53 = .ok (.ireturn, 1) := dk_172 (dk_at dksX10_ask_2 8 rfl rfl)
theorem dX10_ask_54 : decode cX10_ask 54 = .ok (.aload_n 0, 1) := dk_42 (dk_at dksX10_ask_2 9 rfl rfl)
theorem dX10_ask_55 : decode cX10_ask 55 = .ok (.invokevirtual 458, 3) := dk_182 1 202 (dk_at dksX10_ask_2 10 rfl rfl)
theorem dX10_ask_58 : decode cX10_ask 58 = .ok (.aload_n 0, 1) := dk_42 (dk_at dksX10_ask_2 13 rfl rfl)
theorem dX10_ask_59 : decode cX10_ask 59 = .ok (.iconst 1, 1) := dk_4 (dk_at dksX10_ask_2 14 rfl rfl)
theorem dX10_ask_60 : decode cX10_ask 60 = .ok (.putfield 383, 3) := dk_181 1 127 (dk_at dksX10_ask_2 15 rfl rfl)
theorem dX10_ask_63 : decode cX10_ask 63 = .ok (.aload_n 0, 1) := dk_42 (dk_at dksX10_ask_2 18 rfl rfl)
theorem dX10_ask_64 : decode cX10_ask 64 = .ok (.iconst 0, 1) := dk_3 (dk_at dksX10_ask_2 19 rfl rfl)
theorem dX10_ask_65 : decode cX10_ask 65 = .ok (.iload_n 1, 1) := dk_27 (dk_at dksX10_ask_2 20 rfl rfl)
theorem dX10_ask_66 : decode cX10_ask 66 = .ok (.iload_n 2, 1) := dk_28 (dk_at dksX10_ask_2 21 rfl rfl)
theorem dX10_ask_67 : decode cX10_ask 67 = .ok (.iload_n 3, 1) := dk_29 (dk_at dksX10_ask_2 22 rfl rfl)
theorem dX10_ask_68 : decode cX10_ask 68 = .ok (.invokevirtual 461, 3) := dk_182 1 205 (dk_at dksX10_ask_3 0 rfl rfl)
theorem dX10_ask_71 : decode cX10_ask 71 = .ok (.istore 4, 2) := dk_54 4 (dk_at dksX10_ask_3 3 rfl rfl)
theorem dX10_ask_73 : decode cX10_ask 73 = .ok (.aload_n 0, 1) := dk_42 (dk_at dksX10_ask_3 5 rfl rfl)
theorem dX10_ask_74 : decode cX10_ask 74 = .ok (.iconst 0, 1) := dk_3 (dk_at dksX10_ask_3 6 rfl rfl)
theorem dX10_ask_75 : decode cX10_ask 75 = .ok (.putfield 383, 3) := dk_181 1 127 (dk_at dksX10_ask_3 7 rfl rfl)
theorem dX10_ask_78 : decode cX10_ask 78 = .ok (.aload_n 0, 1) := dk_42 (dk_at dksX10_ask_3 10 rfl rfl)
theorem dX10_ask_79 : decode cX10_ask 79 = .ok (.dup, 1) := dk_89 (dk_at dksX10_ask_3 11 rfl rfl)
theorem dX10_ask_80 : decode cX10_ask 80 = .ok (.getfield 364, 3) := dk_180 1 108 (dk_at dksX10_ask_3 12 rfl rfl)
theorem dX10_ask_83 : decode cX10_ask 83 = .ok (.iconst 1, 1) := dk_4 (dk_at dksX10_ask_3 15 rfl rfl)
theorem dX10_ask_84 : decode cX10_ask 84 = .ok (.iadd, 1) := dk_96 (dk_at dksX10_ask_3 16 rfl rfl)
theorem dX10_ask_85 : decode cX10_ask 85 = .ok (.putfield 364, 3) := dk_181 1 108 (dk_at dksX10_ask_3 17 rfl rfl)
theorem dX10_ask_88 : decode cX10_ask 88 = .ok (.iload 4, 2) := dk_21 4 (dk_at dksX10_ask_3 20 rfl rfl)
theorem dX10_ask_90 : decode cX10_ask 90 = .ok (.ifCond .eq 7, 3) := dk_153 0 7 (dk_at dksX10_ask_4 0 rfl rfl)
theorem dX10_ask_93 : decode cX10_ask 93 = .ok (.iconst 1, 1) := dk_4 (dk_at dksX10_ask_4 3 rfl rfl)
theorem dX10_ask_94 : decode cX10_ask 94 = .ok (.goto 4, 3) := dk_167 0 4 (dk_at dksX10_ask_4 4 rfl rfl)
theorem dX10_ask_97 : decode cX10_ask 97 = .ok (.iconst 0, 1) := dk_3 (dk_at dksX10_ask_4 7 rfl rfl)
theorem dX10_ask_98 : decode cX10_ask 98 = .ok (.ireturn, 1) := dk_172 (dk_at dksX10_ask_4 8 rfl rfl)
def dkwX10_remember_4 : List UInt8 := [42, 180, 1, 121, 42, 180, 1, 111, 80, 42, 89, 180, 1, 121, 4, 96, 181, 1, 121, 177]
abbrev dktX10_remember_4 : List UInt8 := dkwX10_remember_4 ++ []
def dkwX10_remember_3 : List UInt8 := [4, 100, 181, 1, 121, 42, 42, 180, 0, 133, 16, 22, 42, 180, 1, 121, 104, 182, 2, 25, 42, 180, 0, 136]
abbrev dktX10_remember_3 : List UInt8 := dkwX10_remember_3 ++ dktX10_remember_4
def dkwX10_remember_2 : List UInt8 := [180, 0, 136, 27, 42, 180, 0, 136, 27, 4, 96, 47, 80, 132, 1, 1, 167, 255, 233, 42, 89, 180, 1, 121]
abbrev dktX10_remember_2 : List UInt8 := dkwX10_remember_2 ++ dktX10_remember_3
def dkwX10_remember_1 : List UInt8 := [180, 0, 133, 27, 16, 22, 96, 46, 79, 132, 1, 1, 167, 255, 231, 3, 60, 27, 16, 19, 162, 0, 23, 42]
abbrev dktX10_remember_1 : List UInt8 := dkwX10_remember_1 ++ dktX10_remember_2
def dkwX10_remember_0 : List UInt8 := [42, 180, 1, 121, 16, 20, 160, 0, 71, 3, 60, 27, 17, 1, 162, 162, 0, 24, 42, 180, 0, 133, 27, 42]
abbrev dktX10_remember_0 : List UInt8 := dkwX10_remember_0 ++ dktX10_remember_1
theorem dksX10_remember_0 : cX10_remember.data.toList.drop 0 = dktX10_remember_0 := by decide +kernel
theorem dksX10_remember_1 : cX10_remember.data.toList.drop 24 = dktX10_remember_1 := dk_seg dksX10_remember_0 24 rfl rfl
theorem dksX10_remember_2 : cX10_remember.data.toList.drop 48 = dktX10_remember_2 := dk_seg dksX10_remember_1 24 rfl rfl
theorem dksX10_remember_3 : cX10_remember.data.toList.drop 72 = dktX10_remember_3 := dk_seg dksX10_remember_2 24 rfl rfl
theorem dksX10_remember_4 : cX10_remember.data.toList.drop 96 = dktX10_remember_4 := dk_seg dksX10_remember_3 24 rfl rfl
theorem dX10_remember_0 : decode cX10_remember 0 = .ok (.aload_n 0, 1) := dk_42 (dk_at dksX10_remember_0 0 rfl rfl)
theorem dX10_remember_1 : decode cX10_remember 1 = .ok (.getfield 377, 3) := dk_180 1 121 (dk_at dksX10_remember_0 1 rfl rfl)
theorem dX10_remember_4 : decode cX10_remember 4 = .ok (.bipush 20, 2) := dk_16 20 (dk_at dksX10_remember_0 4 rfl rfl)
theorem dX10_remember_6 : decode cX10_remember 6 = .ok (.if_icmp .ne 71, 3) := dk_160 0 71 (dk_at dksX10_remember_0 6 rfl rfl)
theorem dX10_remember_9 : decode cX10_remember 9 = .ok (.iconst 0, 1) := dk_3 (dk_at dksX10_remember_0 9 rfl rfl)
theorem dX10_remember_10 : decode cX10_remember 10 = .ok (.istore_n 1, 1) := dk_60 (dk_at dksX10_remember_0 10 rfl rfl)
theorem dX10_remember_11 : decode cX10_remember 11 = .ok (.iload_n 1, 1) := dk_27 (dk_at dksX10_remember_0 11 rfl rfl)
theorem dX10_remember_12 : decode cX10_remember 12 = .ok (.sipush 418, 3) := dk_17 1 162 (dk_at dksX10_remember_0 12 rfl rfl)
theorem dX10_remember_15 : decode cX10_remember 15 = .ok (.if_icmp .ge 24, 3) := dk_162 0 24 (dk_at dksX10_remember_0 15 rfl rfl)
theorem dX10_remember_18 : decode cX10_remember 18 = .ok (.aload_n 0, 1) := dk_42 (dk_at dksX10_remember_0 18 rfl rfl)
theorem dX10_remember_19 : decode cX10_remember 19 = .ok (.getfield 133, 3) := dk_180 0 133 (dk_at dksX10_remember_0 19 rfl rfl)
theorem dX10_remember_22 : decode cX10_remember 22 = .ok (.iload_n 1, 1) := dk_27 (dk_at dksX10_remember_0 22 rfl rfl)
theorem dX10_remember_23 : decode cX10_remember 23 = .ok (.aload_n 0, 1) := dk_42 (dk_at dksX10_remember_0 23 rfl rfl)
theorem dX10_remember_24 : decode cX10_remember 24 = .ok (.getfield 133, 3) := dk_180 0 133 (dk_at dksX10_remember_1 0 rfl rfl)
theorem dX10_remember_27 : decode cX10_remember 27 = .ok (.iload_n 1, 1) := dk_27 (dk_at dksX10_remember_1 3 rfl rfl)
theorem dX10_remember_28 : decode cX10_remember 28 = .ok (.bipush 22, 2) := dk_16 22 (dk_at dksX10_remember_1 4 rfl rfl)
theorem dX10_remember_30 : decode cX10_remember 30 = .ok (.iadd, 1) := dk_96 (dk_at dksX10_remember_1 6 rfl rfl)
theorem dX10_remember_31 : decode cX10_remember 31 = .ok (.iaload, 1) := dk_46 (dk_at dksX10_remember_1 7 rfl rfl)
theorem dX10_remember_32 : decode cX10_remember 32 = .ok (.iastore, 1) := dk_79 (dk_at dksX10_remember_1 8 rfl rfl)
theorem dX10_remember_33 : decode cX10_remember 33 = .ok (.iinc 1 1, 3) := dk_132 1 1 (dk_at dksX10_remember_1 9 rfl rfl)
theorem dX10_remember_36 : decode cX10_remember 36 = .ok (.goto (-25), 3) := dk_167 255 231 (dk_at dksX10_remember_1 12 rfl rfl)
theorem dX10_remember_39 : decode cX10_remember 39 = .ok (.iconst 0, 1) := dk_3 (dk_at dksX10_remember_1 15 rfl rfl)
theorem dX10_remember_40 : decode cX10_remember 40 = .ok (.istore_n 1, 1) := dk_60 (dk_at dksX10_remember_1 16 rfl rfl)
theorem dX10_remember_41 : decode cX10_remember 41 = .ok (.iload_n 1, 1) := dk_27 (dk_at dksX10_remember_1 17 rfl rfl)
theorem dX10_remember_42 : decode cX10_remember 42 = .ok (.bipush 19, 2) := dk_16 19 (dk_at dksX10_remember_1 18 rfl rfl)
theorem dX10_remember_44 : decode cX10_remember 44 = .ok (.if_icmp .ge 23, 3) := dk_162 0 23 (dk_at dksX10_remember_1 20 rfl rfl)
theorem dX10_remember_47 : decode cX10_remember 47 = .ok (.aload_n 0, 1) := dk_42 (dk_at dksX10_remember_1 23 rfl rfl)
theorem dX10_remember_48 : decode cX10_remember 48 = .ok (.getfield 136, 3) := dk_180 0 136 (dk_at dksX10_remember_2 0 rfl rfl)
theorem dX10_remember_51 : decode cX10_remember 51 = .ok (.iload_n 1, 1) := dk_27 (dk_at dksX10_remember_2 3 rfl rfl)
theorem dX10_remember_52 : decode cX10_remember 52 = .ok (.aload_n 0, 1) := dk_42 (dk_at dksX10_remember_2 4 rfl rfl)
theorem dX10_remember_53 : decode cX10_remember 53 = .ok (.getfield 136, 3) := dk_180 0 136 (dk_at dksX10_remember_2 5 rfl rfl)
theorem dX10_remember_56 : decode cX10_remember 56 = .ok (.iload_n 1, 1) := dk_27 (dk_at dksX10_remember_2 8 rfl rfl)
theorem dX10_remember_57 : decode cX10_remember 57 = .ok (.iconst 1, 1) := dk_4 (dk_at dksX10_remember_2 9 rfl rfl)
theorem dX10_remember_58 : decode cX10_remember 58 = .ok (.iadd, 1) := dk_96 (dk_at dksX10_remember_2 10 rfl rfl)
theorem dX10_remember_59 : decode cX10_remember 59 = .ok (.laload, 1) := dk_47 (dk_at dksX10_remember_2 11 rfl rfl)
theorem dX10_remember_60 : decode cX10_remember 60 = .ok (.lastore, 1) := dk_80 (dk_at dksX10_remember_2 12 rfl rfl)
theorem dX10_remember_61 : decode cX10_remember 61 = .ok (.iinc 1 1, 3) := dk_132 1 1 (dk_at dksX10_remember_2 13 rfl rfl)
theorem dX10_remember_64 : decode cX10_remember 64 = .ok (.goto (-23), 3) := dk_167 255 233 (dk_at dksX10_remember_2 16 rfl rfl)
theorem dX10_remember_67 : decode cX10_remember 67 = .ok (.aload_n 0, 1) := dk_42 (dk_at dksX10_remember_2 19 rfl rfl)
theorem dX10_remember_68 : decode cX10_remember 68 = .ok (.dup, 1) := dk_89 (dk_at dksX10_remember_2 20 rfl rfl)
theorem dX10_remember_69 : decode cX10_remember 69 = .ok (.getfield 377, 3) := dk_180 1 121 (dk_at dksX10_remember_2 21 rfl rfl)
theorem dX10_remember_72 : decode cX10_remember 72 = .ok (.iconst 1, 1) := dk_4 (dk_at dksX10_remember_3 0 rfl rfl)
theorem dX10_remember_73 : decode cX10_remember 73 = .ok (.isub, 1) := dk_100 (dk_at dksX10_remember_3 1 rfl rfl)
theorem dX10_remember_74 : decode cX10_remember 74 = .ok (.putfield 377, 3) := dk_181 1 121 (dk_at dksX10_remember_3 2 rfl rfl)
theorem dX10_remember_77 : decode cX10_remember 77 = .ok (.aload_n 0, 1) := dk_42 (dk_at dksX10_remember_3 5 rfl rfl)
theorem dX10_remember_78 : decode cX10_remember 78 = .ok (.aload_n 0, 1) := dk_42 (dk_at dksX10_remember_3 6 rfl rfl)
theorem dX10_remember_79 : decode cX10_remember 79 = .ok (.getfield 133, 3) := dk_180 0 133 (dk_at dksX10_remember_3 7 rfl rfl)
theorem dX10_remember_82 : decode cX10_remember 82 = .ok (.bipush 22, 2) := dk_16 22 (dk_at dksX10_remember_3 10 rfl rfl)
theorem dX10_remember_84 : decode cX10_remember 84 = .ok (.aload_n 0, 1) := dk_42 (dk_at dksX10_remember_3 12 rfl rfl)
theorem dX10_remember_85 : decode cX10_remember 85 = .ok (.getfield 377, 3) := dk_180 1 121 (dk_at dksX10_remember_3 13 rfl rfl)
theorem dX10_remember_88 : decode cX10_remember 88 = .ok (.imul, 1) := dk_104 (dk_at dksX10_remember_3 16 rfl rfl)
theorem dX10_remember_89 : decode cX10_remember 89 = .ok (.invokevirtual 537, 3) := dk_182 2 25 (dk_at dksX10_remember_3 17 rfl rfl)
theorem dX10_remember_92 : decode cX10_remember 92 = .ok (.aload_n 0, 1) := dk_42 (dk_at dksX10_remember_3 20 rfl rfl)
theorem dX10_remember_93 : decode cX10_remember 93 = .ok (.getfield 136, 3) := dk_180 0 136 (dk_at dksX10_remember_3 21 rfl rfl)
theorem dX10_remember_96 : decode cX10_remember 96 = .ok (.aload_n 0, 1) := dk_42 (dk_at dksX10_remember_4 0 rfl rfl)
theorem dX10_remember_97 : decode cX10_remember 97 = .ok (.getfield 377, 3) := dk_180 1 121 (dk_at dksX10_remember_4 1 rfl rfl)
theorem dX10_remember_100 : decode cX10_remember 100 = .ok (.aload_n 0, 1) := dk_42 (dk_at dksX10_remember_4 4 rfl rfl)
theorem dX10_remember_101 : decode cX10_remember 101 = .ok (.getfield 367, 3) := dk_180 1 111 (dk_at dksX10_remember_4 5 rfl rfl)
theorem dX10_remember_104 : decode cX10_remember 104 = .ok (.lastore, 1) := dk_80 (dk_at dksX10_remember_4 8 rfl rfl)
theorem dX10_remember_105 : decode cX10_remember 105 = .ok (.aload_n 0, 1) := dk_42 (dk_at dksX10_remember_4 9 rfl rfl)
theorem dX10_remember_106 : decode cX10_remember 106 = .ok (.dup, 1) := dk_89 (dk_at dksX10_remember_4 10 rfl rfl)
theorem dX10_remember_107 : decode cX10_remember 107 = .ok (.getfield 377, 3) := dk_180 1 121 (dk_at dksX10_remember_4 11 rfl rfl)
theorem dX10_remember_110 : decode cX10_remember 110 = .ok (.iconst 1, 1) := dk_4 (dk_at dksX10_remember_4 14 rfl rfl)
theorem dX10_remember_111 : decode cX10_remember 111 = .ok (.iadd, 1) := dk_96 (dk_at dksX10_remember_4 15 rfl rfl)
theorem dX10_remember_112 : decode cX10_remember 112 = .ok (.putfield 377, 3) := dk_181 1 121 (dk_at dksX10_remember_4 16 rfl rfl)
theorem dX10_remember_115 : decode cX10_remember 115 = .ok (.return_, 1) := dk_177 (dk_at dksX10_remember_4 19 rfl rfl)
def dkwX10_put_3 : List UInt8 := [180, 0, 112, 3, 46, 79, 43, 28, 16, 21, 96, 42, 180, 1, 108, 79, 177]
abbrev dktX10_put_3 : List UInt8 := dkwX10_put_3 ++ []
def dkwX10_put_2 : List UInt8 := [16, 15, 96, 29, 96, 42, 180, 0, 109, 29, 46, 79, 132, 3, 1, 167, 255, 196, 43, 28, 16, 20, 96, 42]
abbrev dktX10_put_2 : List UInt8 := dkwX10_put_2 ++ dktX10_put_3
def dkwX10_put_1 : List UInt8 := [42, 180, 0, 103, 29, 46, 79, 43, 28, 16, 10, 96, 29, 96, 42, 180, 0, 106, 29, 46, 79, 43, 28]
abbrev dktX10_put_1 : List UInt8 := dkwX10_put_1 ++ dktX10_put_2
def dkwX10_put_0 : List UInt8 := [3, 62, 29, 8, 162, 0, 61, 43, 28, 29, 96, 42, 180, 0, 100, 29, 46, 79, 43, 28, 8, 96, 29, 96]
abbrev dktX10_put_0 : List UInt8 := dkwX10_put_0 ++ dktX10_put_1
theorem dksX10_put_0 : cX10_put.data.toList.drop 0 = dktX10_put_0 := by decide +kernel
theorem dksX10_put_1 : cX10_put.data.toList.drop 24 = dktX10_put_1 := dk_seg dksX10_put_0 24 rfl rfl
theorem dksX10_put_2 : cX10_put.data.toList.drop 47 = dktX10_put_2 := dk_seg dksX10_put_1 23 rfl rfl
theorem dksX10_put_3 : cX10_put.data.toList.drop 71 = dktX10_put_3 := dk_seg dksX10_put_2 24 rfl rfl
theorem dX10_put_0 : decode cX10_put 0 = .ok (.iconst 0, 1) := dk_3 (dk_at dksX10_put_0 0 rfl rfl)
theorem dX10_put_1 : decode cX10_put 1 = .ok (.istore_n 3, 1) := dk_62 (dk_at dksX10_put_0 1 rfl rfl)
theorem dX10_put_2 : decode cX10_put 2 = .ok (.iload_n 3, 1) := dk_29 (dk_at dksX10_put_0 2 rfl rfl)
theorem dX10_put_3 : decode cX10_put 3 = .ok (.iconst 5, 1) := dk_8 (dk_at dksX10_put_0 3 rfl rfl)
theorem dX10_put_4 : decode cX10_put 4 = .ok (.if_icmp .ge 61, 3) := dk_162 0 61 (dk_at dksX10_put_0 4 rfl rfl)
theorem dX10_put_7 : decode cX10_put 7 = .ok (.aload_n 1, 1) := dk_43 (dk_at dksX10_put_0 7 rfl rfl)
theorem dX10_put_8 : decode cX10_put 8 = .ok (.iload_n 2, 1) := dk_28 (dk_at dksX10_put_0 8 rfl rfl)
theorem dX10_put_9 : decode cX10_put 9 = .ok (.iload_n 3, 1) := dk_29 (dk_at dksX10_put_0 9 rfl rfl)
theorem dX10_put_10 : decode cX10_put 10 = .ok (.iadd, 1) := dk_96 (dk_at dksX10_put_0 10 rfl rfl)
theorem dX10_put_11 : decode cX10_put 11 = .ok (.aload_n 0, 1) := dk_42 (dk_at dksX10_put_0 11 rfl rfl)
theorem dX10_put_12 : decode cX10_put 12 = .ok (.getfield 100, 3) := dk_180 0 100 (dk_at dksX10_put_0 12 rfl rfl)
theorem dX10_put_15 : decode cX10_put 15 = .ok (.iload_n 3, 1) := dk_29 (dk_at dksX10_put_0 15 rfl rfl)
theorem dX10_put_16 : decode cX10_put 16 = .ok (.iaload, 1) := dk_46 (dk_at dksX10_put_0 16 rfl rfl)
theorem dX10_put_17 : decode cX10_put 17 = .ok (.iastore, 1) := dk_79 (dk_at dksX10_put_0 17 rfl rfl)
theorem dX10_put_18 : decode cX10_put 18 = .ok (.aload_n 1, 1) := dk_43 (dk_at dksX10_put_0 18 rfl rfl)
theorem dX10_put_19 : decode cX10_put 19 = .ok (.iload_n 2, 1) := dk_28 (dk_at dksX10_put_0 19 rfl rfl)
theorem dX10_put_20 : decode cX10_put 20 = .ok (.iconst 5, 1) := dk_8 (dk_at dksX10_put_0 20 rfl rfl)
theorem dX10_put_21 : decode cX10_put 21 = .ok (.iadd, 1) := dk_96 (dk_at dksX10_put_0 21 rfl rfl)
theorem dX10_put_22 : decode cX10_put 22 = .ok (.iload_n 3, 1) := dk_29 (dk_at dksX10_put_0 22 rfl rfl)
theorem dX10_put_23 : decode cX10_put 23 = .ok (.iadd, 1) := dk_96 (dk_at dksX10_put_0 23 rfl rfl)
theorem dX10_put_24 : decode cX10_put 24 = .ok (.aload_n 0, 1) := dk_42 (dk_at dksX10_put_1 0 rfl rfl)
theorem dX10_put_25 : decode cX10_put 25 = .ok (.getfield 103, 3) := dk_180 0 103 (dk_at dksX10_put_1 1 rfl rfl)
theorem dX10_put_28 : decode cX10_put 28 = .ok (.iload_n 3, 1) := dk_29 (dk_at dksX10_put_1 4 rfl rfl)
theorem dX10_put_29 : decode cX10_put 29 = .ok (.iaload, 1) := dk_46 (dk_at dksX10_put_1 5 rfl rfl)
theorem dX10_put_30 : decode cX10_put 30 = .ok (.iastore, 1) := dk_79 (dk_at dksX10_put_1 6 rfl rfl)
theorem dX10_put_31 : decode cX10_put 31 = .ok (.aload_n 1, 1) := dk_43 (dk_at dksX10_put_1 7 rfl rfl)
theorem dX10_put_32 : decode cX10_put 32 = .ok (.iload_n 2, 1) := dk_28 (dk_at dksX10_put_1 8 rfl rfl)
theorem dX10_put_33 : decode cX10_put 33 = .ok (.bipush 10, 2) := dk_16 10 (dk_at dksX10_put_1 9 rfl rfl)
theorem dX10_put_35 : decode cX10_put 35 = .ok (.iadd, 1) := dk_96 (dk_at dksX10_put_1 11 rfl rfl)
theorem dX10_put_36 : decode cX10_put 36 = .ok (.iload_n 3, 1) := dk_29 (dk_at dksX10_put_1 12 rfl rfl)
theorem dX10_put_37 : decode cX10_put 37 = .ok (.iadd, 1) := dk_96 (dk_at dksX10_put_1 13 rfl rfl)
theorem dX10_put_38 : decode cX10_put 38 = .ok (.aload_n 0, 1) := dk_42 (dk_at dksX10_put_1 14 rfl rfl)
theorem dX10_put_39 : decode cX10_put 39 = .ok (.getfield 106, 3) := dk_180 0 106 (dk_at dksX10_put_1 15 rfl rfl)
theorem dX10_put_42 : decode cX10_put 42 = .ok (.iload_n 3, 1) := dk_29 (dk_at dksX10_put_1 18 rfl rfl)
theorem dX10_put_43 : decode cX10_put 43 = .ok (.iaload, 1) := dk_46 (dk_at dksX10_put_1 19 rfl rfl)
theorem dX10_put_44 : decode cX10_put 44 = .ok (.iastore, 1) := dk_79 (dk_at dksX10_put_1 20 rfl rfl)
theorem dX10_put_45 : decode cX10_put 45 = .ok (.aload_n 1, 1) := dk_43 (dk_at dksX10_put_1 21 rfl rfl)
theorem dX10_put_46 : decode cX10_put 46 = .ok (.iload_n 2, 1) := dk_28 (dk_at dksX10_put_1 22 rfl rfl)
theorem dX10_put_47 : decode cX10_put 47 = .ok (.bipush 15, 2) := dk_16 15 (dk_at dksX10_put_2 0 rfl rfl)
theorem dX10_put_49 : decode cX10_put 49 = .ok (.iadd, 1) := dk_96 (dk_at dksX10_put_2 2 rfl rfl)
theorem dX10_put_50 : decode cX10_put 50 = .ok (.iload_n 3, 1) := dk_29 (dk_at dksX10_put_2 3 rfl rfl)
theorem dX10_put_51 : decode cX10_put 51 = .ok (.iadd, 1) := dk_96 (dk_at dksX10_put_2 4 rfl rfl)
theorem dX10_put_52 : decode cX10_put 52 = .ok (.aload_n 0, 1) := dk_42 (dk_at dksX10_put_2 5 rfl rfl)
theorem dX10_put_53 : decode cX10_put 53 = .ok (.getfield 109, 3) := dk_180 0 109 (dk_at dksX10_put_2 6 rfl rfl)
theorem dX10_put_56 : decode cX10_put 56 = .ok (.iload_n 3, 1) := dk_29 (dk_at dksX10_put_2 9 rfl rfl)
theorem dX10_put_57 : decode cX10_put 57 = .ok (.iaload, 1) := dk_46 (dk_at dksX10_put_2 10 rfl rfl)
theorem dX10_put_58 : decode cX10_put 58 = .ok (.iastore, 1) := dk_79 (dk_at dksX10_put_2 11 rfl rfl)
theorem dX10_put_59 : decode cX10_put 59 = .ok (.iinc 3 1, 3) := dk_132 3 1 (dk_at dksX10_put_2 12 rfl rfl)
theorem dX10_put_62 : decode cX10_put 62 = .ok (.goto (-60), 3) := dk_167 255 196 (dk_at dksX10_put_2 15 rfl rfl)
theorem dX10_put_65 : decode cX10_put 65 = .ok (.aload_n 1, 1) := dk_43 (dk_at dksX10_put_2 18 rfl rfl)
theorem dX10_put_66 : decode cX10_put 66 = .ok (.iload_n 2, 1) := dk_28 (dk_at dksX10_put_2 19 rfl rfl)
theorem dX10_put_67 : decode cX10_put 67 = .ok (.bipush 20, 2) := dk_16 20 (dk_at dksX10_put_2 20 rfl rfl)
theorem dX10_put_69 : decode cX10_put 69 = .ok (.iadd, 1) := dk_96 (dk_at dksX10_put_2 22 rfl rfl)
theorem dX10_put_70 : decode cX10_put 70 = .ok (.aload_n 0, 1) := dk_42 (dk_at dksX10_put_2 23 rfl rfl)
theorem dX10_put_71 : decode cX10_put 71 = .ok (.getfield 112, 3) := dk_180 0 112 (dk_at dksX10_put_3 0 rfl rfl)
theorem dX10_put_74 : decode cX10_put 74 = .ok (.iconst 0, 1) := dk_3 (dk_at dksX10_put_3 3 rfl rfl)
theorem dX10_put_75 : decode cX10_put 75 = .ok (.iaload, 1) := dk_46 (dk_at dksX10_put_3 4 rfl rfl)
theorem dX10_put_76 : decode cX10_put 76 = .ok (.iastore, 1) := dk_79 (dk_at dksX10_put_3 5 rfl rfl)
theorem dX10_put_77 : decode cX10_put 77 = .ok (.aload_n 1, 1) := dk_43 (dk_at dksX10_put_3 6 rfl rfl)
theorem dX10_put_78 : decode cX10_put 78 = .ok (.iload_n 2, 1) := dk_28 (dk_at dksX10_put_3 7 rfl rfl)
theorem dX10_put_79 : decode cX10_put 79 = .ok (.bipush 21, 2) := dk_16 21 (dk_at dksX10_put_3 8 rfl rfl)
theorem dX10_put_81 : decode cX10_put 81 = .ok (.iadd, 1) := dk_96 (dk_at dksX10_put_3 10 rfl rfl)
theorem dX10_put_82 : decode cX10_put 82 = .ok (.aload_n 0, 1) := dk_42 (dk_at dksX10_put_3 11 rfl rfl)
theorem dX10_put_83 : decode cX10_put 83 = .ok (.getfield 364, 3) := dk_180 1 108 (dk_at dksX10_put_3 12 rfl rfl)
theorem dX10_put_86 : decode cX10_put 86 = .ok (.iastore, 1) := dk_79 (dk_at dksX10_put_3 15 rfl rfl)
theorem dX10_put_87 : decode cX10_put 87 = .ok (.return_, 1) := dk_177 (dk_at dksX10_put_3 16 rfl rfl)
def dkwX10_asks_9 : List UInt8 := [96, 79, 4, 172]
abbrev dktX10_asks_9 : List UInt8 := dkwX10_asks_9 ++ []
def dkwX10_asks_8 : List UInt8 := [21, 4, 46, 120, 128, 79, 132, 5, 1, 167, 255, 185, 42, 180, 0, 103, 8, 27, 104, 29, 96, 92, 46, 4]
abbrev dktX10_asks_8 : List UInt8 := dkwX10_asks_8 ++ dktX10_asks_9
def dkwX10_asks_7 : List UInt8 := [184, 1, 8, 154, 0, 26, 42, 180, 0, 100, 8, 27, 104, 21, 5, 96, 92, 46, 4, 42, 180, 0, 57]
abbrev dktX10_asks_7 : List UInt8 := dkwX10_asks_7 ++ dktX10_asks_8
def dkwX10_asks_6 : List UInt8 := [21, 5, 96, 46, 42, 180, 0, 106, 8, 27, 104, 28, 96, 46, 160, 0, 38, 42, 180, 1, 139, 21, 5]
abbrev dktX10_asks_6 : List UInt8 := dkwX10_asks_6 ++ dktX10_asks_7
def dkwX10_asks_5 : List UInt8 := [154, 0, 5, 3, 172, 3, 54, 5, 21, 5, 42, 180, 0, 231, 162, 0, 68, 42, 180, 0, 106, 8, 27, 104]
abbrev dktX10_asks_5 : List UInt8 := dkwX10_asks_5 ++ dktX10_asks_6
def dkwX10_asks_4 : List UInt8 := [42, 21, 4, 182, 1, 145, 128, 79, 132, 5, 1, 167, 255, 167, 42, 27, 29, 21, 4, 182, 1, 184]
abbrev dktX10_asks_4 : List UInt8 := dkwX10_asks_4 ++ dktX10_asks_5
def dkwX10_asks_3 : List UInt8 := [42, 27, 21, 5, 21, 4, 182, 1, 181, 153, 0, 23, 42, 180, 0, 100, 8, 27, 104, 21, 5, 96, 92, 46]
abbrev dktX10_asks_3 : List UInt8 := dkwX10_asks_3 ++ dktX10_asks_4
def dkwX10_asks_2 : List UInt8 := [8, 27, 104, 28, 96, 46, 160, 0, 50, 42, 180, 1, 139, 21, 5, 184, 1, 8, 153, 0, 6, 167, 0, 35]
abbrev dktX10_asks_2 : List UInt8 := dkwX10_asks_2 ++ dktX10_asks_3
def dkwX10_asks_1 : List UInt8 := [162, 0, 86, 21, 5, 28, 159, 0, 74, 42, 180, 0, 106, 8, 27, 104, 21, 5, 96, 46, 42, 180, 0, 106]
abbrev dktX10_asks_1 : List UInt8 := dkwX10_asks_1 ++ dktX10_asks_2
def dkwX10_asks_0 : List UInt8 := [42, 180, 0, 109, 8, 27, 104, 28, 96, 92, 46, 4, 96, 79, 3, 54, 5, 21, 5, 42, 180, 0, 231]
abbrev dktX10_asks_0 : List UInt8 := dkwX10_asks_0 ++ dktX10_asks_1
theorem dksX10_asks_0 : cX10_asks.data.toList.drop 0 = dktX10_asks_0 := by decide +kernel
theorem dksX10_asks_1 : cX10_asks.data.toList.drop 23 = dktX10_asks_1 := dk_seg dksX10_asks_0 23 rfl rfl
theorem dksX10_asks_2 : cX10_asks.data.toList.drop 47 = dktX10_asks_2 := dk_seg dksX10_asks_1 24 rfl rfl
theorem dksX10_asks_3 : cX10_asks.data.toList.drop 71 = dktX10_asks_3 := dk_seg dksX10_asks_2 24 rfl rfl
theorem dksX10_asks_4 : cX10_asks.data.toList.drop 95 = dktX10_asks_4 := dk_seg dksX10_asks_3 24 rfl rfl
theorem dksX10_asks_5 : cX10_asks.data.toList.drop 117 = dktX10_asks_5 := dk_seg dksX10_asks_4 22 rfl rfl
theorem dksX10_asks_6 : cX10_asks.data.toList.drop 141 = dktX10_asks_6 := dk_seg dksX10_asks_5 24 rfl rfl
theorem dksX10_asks_7 : cX10_asks.data.toList.drop 164 = dktX10_asks_7 := dk_seg dksX10_asks_6 23 rfl rfl
theorem dksX10_asks_8 : cX10_asks.data.toList.drop 187 = dktX10_asks_8 := dk_seg dksX10_asks_7 23 rfl rfl
theorem dksX10_asks_9 : cX10_asks.data.toList.drop 211 = dktX10_asks_9 := dk_seg dksX10_asks_8 24 rfl rfl
theorem dX10_asks_0 : decode cX10_asks 0 = .ok (.aload_n 0, 1) := dk_42 (dk_at dksX10_asks_0 0 rfl rfl)
theorem dX10_asks_1 : decode cX10_asks 1 = .ok (.getfield 109, 3) := dk_180 0 109 (dk_at dksX10_asks_0 1 rfl rfl)
theorem dX10_asks_4 : decode cX10_asks 4 = .ok (.iconst 5, 1) := dk_8 (dk_at dksX10_asks_0 4 rfl rfl)
theorem dX10_asks_5 : decode cX10_asks 5 = .ok (.iload_n 1, 1) := dk_27 (dk_at dksX10_asks_0 5 rfl rfl)
theorem dX10_asks_6 : decode cX10_asks 6 = .ok (.imul, 1) := dk_104 (dk_at dksX10_asks_0 6 rfl rfl)
theorem dX10_asks_7 : decode cX10_asks 7 = .ok (.iload_n 2, 1) := dk_28 (dk_at dksX10_asks_0 7 rfl rfl)
theorem dX10_asks_8 : decode cX10_asks 8 = .ok (.iadd, 1) := dk_96 (dk_at dksX10_asks_0 8 rfl rfl)
theorem dX10_asks_9 : decode cX10_asks 9 = .ok (.dup2, 1) := dk_92 (dk_at dksX10_asks_0 9 rfl rfl)
theorem dX10_asks_10 : decode cX10_asks 10 = .ok (.iaload, 1) := dk_46 (dk_at dksX10_asks_0 10 rfl rfl)
theorem dX10_asks_11 : decode cX10_asks 11 = .ok (.iconst 1, 1) := dk_4 (dk_at dksX10_asks_0 11 rfl rfl)
theorem dX10_asks_12 : decode cX10_asks 12 = .ok (.iadd, 1) := dk_96 (dk_at dksX10_asks_0 12 rfl rfl)
theorem dX10_asks_13 : decode cX10_asks 13 = .ok (.iastore, 1) := dk_79 (dk_at dksX10_asks_0 13 rfl rfl)
theorem dX10_asks_14 : decode cX10_asks 14 = .ok (.iconst 0, 1) := dk_3 (dk_at dksX10_asks_0 14 rfl rfl)
theorem dX10_asks_15 : decode cX10_asks 15 = .ok (.istore 5, 2) := dk_54 5 (dk_at dksX10_asks_0 15 rfl rfl)
theorem dX10_asks_17 : decode cX10_asks 17 = .ok (.iload 5, 2) := dk_21 5 (dk_at dksX10_asks_0 17 rfl rfl)
theorem dX10_asks_19 : decode cX10_asks 19 = .ok (.aload_n 0, 1) := dk_42 (dk_at dksX10_asks_0 19 rfl rfl)
theorem dX10_asks_20 : decode cX10_asks 20 = .ok (.getfield 231, 3) := dk_180 0 231 (dk_at dksX10_asks_0 20 rfl rfl)
theorem dX10_asks_23 : decode cX10_asks 23 = .ok (.if_icmp .ge 86, 3) := dk_162 0 86 (dk_at dksX10_asks_1 0 rfl rfl)
theorem dX10_asks_26 : decode cX10_asks 26 = .ok (.iload 5, 2) := dk_21 5 (dk_at dksX10_asks_1 3 rfl rfl)
theorem dX10_asks_28 : decode cX10_asks 28 = .ok (.iload_n 2, 1) := dk_28 (dk_at dksX10_asks_1 5 rfl rfl)
theorem dX10_asks_29 : decode cX10_asks 29 = .ok (.if_icmp .eq 74, 3) := dk_159 0 74 (dk_at dksX10_asks_1 6 rfl rfl)
theorem dX10_asks_32 : decode cX10_asks 32 = .ok (.aload_n 0, 1) := dk_42 (dk_at dksX10_asks_1 9 rfl rfl)
theorem dX10_asks_33 : decode cX10_asks 33 = .ok (.getfield 106, 3) := dk_180 0 106 (dk_at dksX10_asks_1 10 rfl rfl)
theorem dX10_asks_36 : decode cX10_asks 36 = .ok (.iconst 5, 1) := dk_8 (dk_at dksX10_asks_1 13 rfl rfl)
theorem dX10_asks_37 : decode cX10_asks 37 = .ok (.iload_n 1, 1) := dk_27 (dk_at dksX10_asks_1 14 rfl rfl)
theorem dX10_asks_38 : decode cX10_asks 38 = .ok (.imul, 1) := dk_104 (dk_at dksX10_asks_1 15 rfl rfl)
theorem dX10_asks_39 : decode cX10_asks 39 = .ok (.iload 5, 2) := dk_21 5 (dk_at dksX10_asks_1 16 rfl rfl)
theorem dX10_asks_41 : decode cX10_asks 41 = .ok (.iadd, 1) := dk_96 (dk_at dksX10_asks_1 18 rfl rfl)
theorem dX10_asks_42 : decode cX10_asks 42 = .ok (.iaload, 1) := dk_46 (dk_at dksX10_asks_1 19 rfl rfl)
theorem dX10_asks_43 : decode cX10_asks 43 = .ok (.aload_n 0, 1) := dk_42 (dk_at dksX10_asks_1 20 rfl rfl)
theorem dX10_asks_44 : decode cX10_asks 44 = .ok (.getfield 106, 3) := dk_180 0 106 (dk_at dksX10_asks_1 21 rfl rfl)
theorem dX10_asks_47 : decode cX10_asks 47 = .ok (.iconst 5, 1) := dk_8 (dk_at dksX10_asks_2 0 rfl rfl)
theorem dX10_asks_48 : decode cX10_asks 48 = .ok (.iload_n 1, 1) := dk_27 (dk_at dksX10_asks_2 1 rfl rfl)
theorem dX10_asks_49 : decode cX10_asks 49 = .ok (.imul, 1) := dk_104 (dk_at dksX10_asks_2 2 rfl rfl)
theorem dX10_asks_50 : decode cX10_asks 50 = .ok (.iload_n 2, 1) := dk_28 (dk_at dksX10_asks_2 3 rfl rfl)
theorem dX10_asks_51 : decode cX10_asks 51 = .ok (.iadd, 1) := dk_96 (dk_at dksX10_asks_2 4 rfl rfl)
theorem dX10_asks_52 : decode cX10_asks 52 = .ok (.iaload, 1) := dk_46 (dk_at dksX10_asks_2 5 rfl rfl)
theorem dX10_asks_53 : decode cX10_asks 53 = .ok (.if_icmp .ne 50, 3) := dk_160 0 50 (dk_at dksX10_asks_2 6 rfl rfl)
theorem dX10_asks_56 : decode cX10_asks 56 = .ok (.aload_n 0, 1) := dk_42 (dk_at dksX10_asks_2 9 rfl rfl)
theorem dX10_asks_57 : decode cX10_asks 57 = .ok (.getfield 395, 3) := dk_180 1 139 (dk_at dksX10_asks_2 10 rfl rfl)
theorem dX10_asks_60 : decode cX10_asks 60 = .ok (.iload 5, 2) := dk_21 5 (dk_at dksX10_asks_2 13 rfl rfl)
theorem dX10_asks_62 : decode cX10_asks 62 = .ok (.invokestatic 264, 3) := dk_184 1 8 (dk_at dksX10_asks_2 15 rfl rfl)
theorem dX10_asks_65 : decode cX10_asks 65 = .ok (.ifCond .eq 6, 3) := dk_153 0 6 (dk_at dksX10_asks_2 18 rfl rfl)
theorem dX10_asks_68 : decode cX10_asks 68 = .ok (.goto 35, 3) := dk_167 0 35 (dk_at dksX10_asks_2 21 rfl rfl)
theorem dX10_asks_71 : decode cX10_asks 71 = .ok (.aload_n 0, 1) := dk_42 (dk_at dksX10_asks_3 0 rfl rfl)
theorem dX10_asks_72 : decode cX10_asks 72 = .ok (.iload_n 1, 1) := dk_27 (dk_at dksX10_asks_3 1 rfl rfl)
theorem dX10_asks_73 : decode cX10_asks 73 = .ok (.iload 5, 2) := dk_21 5 (dk_at dksX10_asks_3 2 rfl rfl)
theorem dX10_asks_75 : decode cX10_asks 75 = .ok (.iload 4, 2) := dk_21 4 (dk_at dksX10_asks_3 4 rfl rfl)
theorem dX10_asks_77 : decode cX10_asks 77 = .ok (.invokevirtual 437, 3) := dk_182 1 181 (dk_at dksX10_asks_3 6 rfl rfl)
theorem dX10_asks_80 : decode cX10_asks 80 = .ok (.ifCond .eq 23, 3) := dk_153 0 23 (dk_at dksX10_asks_3 9 rfl rfl)
theorem dX10_asks_83 : decode cX10_asks 83 = .ok (.aload_n 0, 1) := dk_42 (dk_at dksX10_asks_3 12 rfl rfl)
theorem dX10_asks_84 : decode cX10_asks 84 = .ok (.getfield 100, 3) := dk_180 0 100 (dk_at dksX10_asks_3 13 rfl rfl)
theorem dX10_asks_87 : decode cX10_asks 87 = .ok (.iconst 5, 1) := dk_8 (dk_at dksX10_asks_3 16 rfl rfl)
theorem dX10_asks_88 : decode cX10_asks 88 = .ok (.iload_n 1, 1) := dk_27 (dk_at dksX10_asks_3 17 rfl rfl)
theorem dX10_asks_89 : decode cX10_asks 89 = .ok (.imul, 1) := dk_104 (dk_at dksX10_asks_3 18 rfl rfl)
theorem dX10_asks_90 : decode cX10_asks 90 = .ok (.iload 5, 2) := dk_21 5 (dk_at dksX10_asks_3 19 rfl rfl)
theorem dX10_asks_92 : decode cX10_asks 92 = .ok (.iadd, 1) := dk_96 (dk_at dksX10_asks_3 21 rfl rfl)
theorem dX10_asks_93 : decode cX10_asks 93 = .ok (.dup2, 1) := dk_92 (dk_at dksX10_asks_3 22 rfl rfl)
theorem dX10_asks_94 : decode cX10_asks 94 = .ok (.iaload, 1) := dk_46 (dk_at dksX10_asks_3 23 rfl rfl)
theorem dX10_asks_95 : decode cX10_asks 95 = .ok (.aload_n 0, 1) := dk_42 (dk_at dksX10_asks_4 0 rfl rfl)
theorem dX10_asks_96 : decode cX10_asks 96 = .ok (.iload 4, 2) := dk_21 4 (dk_at dksX10_asks_4 1 rfl rfl)
theorem dX10_asks_98 : decode cX10_asks 98 = .ok (.invokevirtual 401, 3) := dk_182 1 145 (dk_at dksX10_asks_4 3 rfl rfl)
theorem dX10_asks_101 : decode cX10_asks 101 = .ok (.ior, 1) := dk_128 (dk_at dksX10_asks_4 6 rfl rfl)
theorem dX10_asks_102 : decode cX10_asks 102 = .ok (.iastore, 1) := dk_79 (dk_at dksX10_asks_4 7 rfl rfl)
theorem dX10_asks_103 : decode cX10_asks 103 = .ok (.iinc 5 1, 3) := dk_132 5 1 (dk_at dksX10_asks_4 8 rfl rfl)
theorem dX10_asks_106 : decode cX10_asks 106 = .ok (.goto (-89), 3) := dk_167 255 167 (dk_at dksX10_asks_4 11 rfl rfl)
theorem dX10_asks_109 : decode cX10_asks 109 = .ok (.aload_n 0, 1) := dk_42 (dk_at dksX10_asks_4 14 rfl rfl)
theorem dX10_asks_110 : decode cX10_asks 110 = .ok (.iload_n 1, 1) := dk_27 (dk_at dksX10_asks_4 15 rfl rfl)
theorem dX10_asks_111 : decode cX10_asks 111 = .ok (.iload_n 3, 1) := dk_29 (dk_at dksX10_asks_4 16 rfl rfl)
theorem dX10_asks_112 : decode cX10_asks 112 = .ok (.iload 4, 2) := dk_21 4 (dk_at dksX10_asks_4 17 rfl rfl)
theorem dX10_asks_114 : decode cX10_asks 114 = .ok (.invokevirtual 440, 3) := dk_182 1 184 (dk_at dksX10_asks_4 19 rfl rfl)
theorem dX10_asks_117 : decode cX10_asks 117 = .ok (.ifCond .ne 5, 3) := dk_154 0 5 (dk_at dksX10_asks_5 0 rfl rfl)
theorem dX10_asks_120 : decode cX10_asks 120 = .ok (.iconst 0, 1) := dk_3 (dk_at dksX10_asks_5 3 rfl rfl)
theorem dX10_asks_121 : decode cX10_asks 121 = .ok (.ireturn, 1) := dk_172 (dk_at dksX10_asks_5 4 rfl rfl)
theorem dX10_asks_122 : decode cX10_asks 122 = .ok (.iconst 0, 1) := dk_3 (dk_at dksX10_asks_5 5 rfl rfl)
theorem dX10_asks_123 : decode cX10_asks 123 = .ok (.istore 5, 2) := dk_54 5 (dk_at dksX10_asks_5 6 rfl rfl)
theorem dX10_asks_125 : decode cX10_asks 125 = .ok (.iload 5, 2) := dk_21 5 (dk_at dksX10_asks_5 8 rfl rfl)
theorem dX10_asks_127 : decode cX10_asks 127 = .ok (.aload_n 0, 1) := dk_42 (dk_at dksX10_asks_5 10 rfl rfl)
theorem dX10_asks_128 : decode cX10_asks 128 = .ok (.getfield 231, 3) := dk_180 0 231 (dk_at dksX10_asks_5 11 rfl rfl)
theorem dX10_asks_131 : decode cX10_asks 131 = .ok (.if_icmp .ge 68, 3) := dk_162 0 68 (dk_at dksX10_asks_5 14 rfl rfl)
theorem dX10_asks_134 : decode cX10_asks 134 = .ok (.aload_n 0, 1) := dk_42 (dk_at dksX10_asks_5 17 rfl rfl)
theorem dX10_asks_135 : decode cX10_asks 135 = .ok (.getfield 106, 3) := dk_180 0 106 (dk_at dksX10_asks_5 18 rfl rfl)
theorem dX10_asks_138 : decode cX10_asks 138 = .ok (.iconst 5, 1) := dk_8 (dk_at dksX10_asks_5 21 rfl rfl)
theorem dX10_asks_139 : decode cX10_asks 139 = .ok (.iload_n 1, 1) := dk_27 (dk_at dksX10_asks_5 22 rfl rfl)
theorem dX10_asks_140 : decode cX10_asks 140 = .ok (.imul, 1) := dk_104 (dk_at dksX10_asks_5 23 rfl rfl)
theorem dX10_asks_141 : decode cX10_asks 141 = .ok (.iload 5, 2) := dk_21 5 (dk_at dksX10_asks_6 0 rfl rfl)
theorem dX10_asks_143 : decode cX10_asks 143 = .ok (.iadd, 1) := dk_96 (dk_at dksX10_asks_6 2 rfl rfl)
theorem dX10_asks_144 : decode cX10_asks 144 = .ok (.iaload, 1) := dk_46 (dk_at dksX10_asks_6 3 rfl rfl)
theorem dX10_asks_145 : decode cX10_asks 145 = .ok (.aload_n 0, 1) := dk_42 (dk_at dksX10_asks_6 4 rfl rfl)
theorem dX10_asks_146 : decode cX10_asks 146 = .ok (.getfield 106, 3) := dk_180 0 106 (dk_at dksX10_asks_6 5 rfl rfl)
theorem dX10_asks_149 : decode cX10_asks 149 = .ok (.iconst 5, 1) := dk_8 (dk_at dksX10_asks_6 8 rfl rfl)
theorem dX10_asks_150 : decode cX10_asks 150 = .ok (.iload_n 1, 1) := dk_27 (dk_at dksX10_asks_6 9 rfl rfl)
theorem dX10_asks_151 : decode cX10_asks 151 = .ok (.imul, 1) := dk_104 (dk_at dksX10_asks_6 10 rfl rfl)
theorem dX10_asks_152 : decode cX10_asks 152 = .ok (.iload_n 2, 1) := dk_28 (dk_at dksX10_asks_6 11 rfl rfl)
theorem dX10_asks_153 : decode cX10_asks 153 = .ok (.iadd, 1) := dk_96 (dk_at dksX10_asks_6 12 rfl rfl)
theorem dX10_asks_154 : decode cX10_asks 154 = .ok (.iaload, 1) := dk_46 (dk_at dksX10_asks_6 13 rfl rfl)
theorem dX10_asks_155 : decode cX10_asks 155 = .ok (.if_icmp .ne 38, 3) := dk_160 0 38 (dk_at dksX10_asks_6 14 rfl rfl)
theorem dX10_asks_158 : decode cX10_asks 158 = .ok (.aload_n 0, 1) := dk_42 (dk_at dksX10_asks_6 17 rfl rfl)
theorem dX10_asks_159 : decode cX10_asks 159 = .ok (.getfield 395, 3) := dk_180 1 139 (dk_at dksX10_asks_6 18 rfl rfl)
theorem dX10_asks_162 : decode cX10_asks 162 = .ok (.iload 5, 2) := dk_21 5 (dk_at dksX10_asks_6 21 rfl rfl)
theorem dX10_asks_164 : decode cX10_asks 164 = .ok (.invokestatic 264, 3) := dk_184 1 8 (dk_at dksX10_asks_7 0 rfl rfl)
theorem dX10_asks_167 : decode cX10_asks 167 = .ok (.ifCond .ne 26, 3) := dk_154 0 26 (dk_at dksX10_asks_7 3 rfl rfl)
theorem dX10_asks_170 : decode cX10_asks 170 = .ok (.aload_n 0, 1) := dk_42 (dk_at dksX10_asks_7 6 rfl rfl)
theorem dX10_asks_171 : decode cX10_asks 171 = .ok (.getfield 100, 3) := dk_180 0 100 (dk_at dksX10_asks_7 7 rfl rfl)
theorem dX10_asks_174 : decode cX10_asks 174 = .ok (.iconst 5, 1) := dk_8 (dk_at dksX10_asks_7 10 rfl rfl)
theorem dX10_asks_175 : decode cX10_asks 175 = .ok (.iload_n 1, 1) := dk_27 (dk_at dksX10_asks_7 11 rfl rfl)
theorem dX10_asks_176 : decode cX10_asks 176 = .ok (.imul, 1) := dk_104 (dk_at dksX10_asks_7 12 rfl rfl)
theorem dX10_asks_177 : decode cX10_asks 177 = .ok (.iload 5, 2) := dk_21 5 (dk_at dksX10_asks_7 13 rfl rfl)
theorem dX10_asks_179 : decode cX10_asks 179 = .ok (.iadd, 1) := dk_96 (dk_at dksX10_asks_7 15 rfl rfl)
theorem dX10_asks_180 : decode cX10_asks 180 = .ok (.dup2, 1) := dk_92 (dk_at dksX10_asks_7 16 rfl rfl)
theorem dX10_asks_181 : decode cX10_asks 181 = .ok (.iaload, 1) := dk_46 (dk_at dksX10_asks_7 17 rfl rfl)
theorem dX10_asks_182 : decode cX10_asks 182 = .ok (.iconst 1, 1) := dk_4 (dk_at dksX10_asks_7 18 rfl rfl)
theorem dX10_asks_183 : decode cX10_asks 183 = .ok (.aload_n 0, 1) := dk_42 (dk_at dksX10_asks_7 19 rfl rfl)
theorem dX10_asks_184 : decode cX10_asks 184 = .ok (.getfield 57, 3) := dk_180 0 57 (dk_at dksX10_asks_7 20 rfl rfl)
theorem dX10_asks_187 : decode cX10_asks 187 = .ok (.iload 4, 2) := dk_21 4 (dk_at dksX10_asks_8 0 rfl rfl)
theorem dX10_asks_189 : decode cX10_asks 189 = .ok (.iaload, 1) := dk_46 (dk_at dksX10_asks_8 2 rfl rfl)
theorem dX10_asks_190 : decode cX10_asks 190 = .ok (.ishl, 1) := dk_120 (dk_at dksX10_asks_8 3 rfl rfl)
theorem dX10_asks_191 : decode cX10_asks 191 = .ok (.ior, 1) := dk_128 (dk_at dksX10_asks_8 4 rfl rfl)
theorem dX10_asks_192 : decode cX10_asks 192 = .ok (.iastore, 1) := dk_79 (dk_at dksX10_asks_8 5 rfl rfl)
theorem dX10_asks_193 : decode cX10_asks 193 = .ok (.iinc 5 1, 3) := dk_132 5 1 (dk_at dksX10_asks_8 6 rfl rfl)
theorem dX10_asks_196 : decode cX10_asks 196 = .ok (.goto (-71), 3) := dk_167 255 185 (dk_at dksX10_asks_8 9 rfl rfl)
theorem dX10_asks_199 : decode cX10_asks 199 = .ok (.aload_n 0, 1) := dk_42 (dk_at dksX10_asks_8 12 rfl rfl)
theorem dX10_asks_200 : decode cX10_asks 200 = .ok (.getfield 103, 3) := dk_180 0 103 (dk_at dksX10_asks_8 13 rfl rfl)
theorem dX10_asks_203 : decode cX10_asks 203 = .ok (.iconst 5, 1) := dk_8 (dk_at dksX10_asks_8 16 rfl rfl)
theorem dX10_asks_204 : decode cX10_asks 204 = .ok (.iload_n 1, 1) := dk_27 (dk_at dksX10_asks_8 17 rfl rfl)
theorem dX10_asks_205 : decode cX10_asks 205 = .ok (.imul, 1) := dk_104 (dk_at dksX10_asks_8 18 rfl rfl)
theorem dX10_asks_206 : decode cX10_asks 206 = .ok (.iload_n 3, 1) := dk_29 (dk_at dksX10_asks_8 19 rfl rfl)
theorem dX10_asks_207 : decode cX10_asks 207 = .ok (.iadd, 1) := dk_96 (dk_at dksX10_asks_8 20 rfl rfl)
theorem dX10_asks_208 : decode cX10_asks 208 = .ok (.dup2, 1) := dk_92 (dk_at dksX10_asks_8 21 rfl rfl)
theorem dX10_asks_209 : decode cX10_asks 209 = .ok (.iaload, 1) := dk_46 (dk_at dksX10_asks_8 22 rfl rfl)
theorem dX10_asks_210 : decode cX10_asks 210 = .ok (.iconst 1, 1) := dk_4 (dk_at dksX10_asks_8 23 rfl rfl)
theorem dX10_asks_211 : decode cX10_asks 211 = .ok (.iadd, 1) := dk_96 (dk_at dksX10_asks_9 0 rfl rfl)
theorem dX10_asks_212 : decode cX10_asks 212 = .ok (.iastore, 1) := dk_79 (dk_at dksX10_asks_9 1 rfl rfl)
theorem dX10_asks_213 : decode cX10_asks 213 = .ok (.iconst 1, 1) := dk_4 (dk_at dksX10_asks_9 2 rfl rfl)
theorem dX10_asks_214 : decode cX10_asks 214 = .ok (.ireturn, 1) := dk_172 (dk_at dksX10_asks_9 3 rfl rfl)
def dkwX10_hears_3 : List UInt8 := [4, 167, 0, 4, 3, 172]
abbrev dktX10_hears_3 : List UInt8 := dkwX10_hears_3 ++ []
def dkwX10_hears_2 : List UInt8 := [182, 1, 161, 55, 5, 42, 180, 1, 86, 153, 0, 8, 21, 4, 167, 0, 15, 22, 5, 9, 148, 153, 0, 7]
abbrev dktX10_hears_2 : List UInt8 := dkwX10_hears_2 ++ dktX10_hears_3
def dkwX10_hears_1 : List UInt8 := [54, 4, 42, 180, 0, 69, 4, 51, 154, 0, 6, 21, 4, 172, 42, 27, 28, 29, 182, 1, 158, 42, 4]
abbrev dktX10_hears_1 : List UInt8 := dkwX10_hears_1 ++ dktX10_hears_2
def dkwX10_hears_0 : List UInt8 := [42, 180, 0, 48, 29, 46, 5, 160, 0, 12, 42, 28, 182, 1, 148, 8, 161, 0, 7, 4, 167, 0, 4, 3]
abbrev dktX10_hears_0 : List UInt8 := dkwX10_hears_0 ++ dktX10_hears_1
theorem dksX10_hears_0 : cX10_hears.data.toList.drop 0 = dktX10_hears_0 := by decide +kernel
theorem dksX10_hears_1 : cX10_hears.data.toList.drop 24 = dktX10_hears_1 := dk_seg dksX10_hears_0 24 rfl rfl
theorem dksX10_hears_2 : cX10_hears.data.toList.drop 47 = dktX10_hears_2 := dk_seg dksX10_hears_1 23 rfl rfl
theorem dksX10_hears_3 : cX10_hears.data.toList.drop 71 = dktX10_hears_3 := dk_seg dksX10_hears_2 24 rfl rfl
theorem dX10_hears_0 : decode cX10_hears 0 = .ok (.aload_n 0, 1) := dk_42 (dk_at dksX10_hears_0 0 rfl rfl)
theorem dX10_hears_1 : decode cX10_hears 1 = .ok (.getfield 48, 3) := dk_180 0 48 (dk_at dksX10_hears_0 1 rfl rfl)
theorem dX10_hears_4 : decode cX10_hears 4 = .ok (.iload_n 3, 1) := dk_29 (dk_at dksX10_hears_0 4 rfl rfl)
theorem dX10_hears_5 : decode cX10_hears 5 = .ok (.iaload, 1) := dk_46 (dk_at dksX10_hears_0 5 rfl rfl)
theorem dX10_hears_6 : decode cX10_hears 6 = .ok (.iconst 2, 1) := dk_5 (dk_at dksX10_hears_0 6 rfl rfl)
theorem dX10_hears_7 : decode cX10_hears 7 = .ok (.if_icmp .ne 12, 3) := dk_160 0 12 (dk_at dksX10_hears_0 7 rfl rfl)
theorem dX10_hears_10 : decode cX10_hears 10 = .ok (.aload_n 0, 1) := dk_42 (dk_at dksX10_hears_0 10 rfl rfl)
theorem dX10_hears_11 : decode cX10_hears 11 = .ok (.iload_n 2, 1) := dk_28 (dk_at dksX10_hears_0 11 rfl rfl)
theorem dX10_hears_12 : decode cX10_hears 12 = .ok (.invokevirtual 404, 3) := dk_182 1 148 (dk_at dksX10_hears_0 12 rfl rfl)
theorem dX10_hears_15 : decode cX10_hears 15 = .ok (.iconst 5, 1) := dk_8 (dk_at dksX10_hears_0 15 rfl rfl)
theorem dX10_hears_16 : decode cX10_hears 16 = .ok (.if_icmp .lt 7, 3) := dk_161 0 7 (dk_at dksX10_hears_0 16 rfl rfl)
theorem dX10_hears_19 : decode cX10_hears 19 = .ok (.iconst 1, 1) := dk_4 (dk_at dksX10_hears_0 19 rfl rfl)
theorem dX10_hears_20 : decode cX10_hears 20 = .ok (.goto 4, 3) := dk_167 0 4 (dk_at dksX10_hears_0 20 rfl rfl)
theorem dX10_hears_23 : decode cX10_hears 23 = .ok (.iconst 0, 1) := dk_3 (dk_at dksX10_hears_0 23 rfl rfl)
theorem dX10_hears_24 : decode cX10_hears 24 = .ok (.istore 4, 2) := dk_54 4 (dk_at dksX10_hears_1 0 rfl rfl)
theorem dX10_hears_26 : decode cX10_hears 26 = .ok (.aload_n 0, 1) := dk_42 (dk_at dksX10_hears_1 2 rfl rfl)
theorem dX10_hears_27 : decode cX10_hears 27 = .ok (.getfield 69, 3) := dk_180 0 69 (dk_at dksX10_hears_1 3 rfl rfl)
theorem dX10_hears_30 : decode cX10_hears 30 = .ok (.iconst 1, 1) := dk_4 (dk_at dksX10_hears_1 6 rfl rfl)
theorem dX10_hears_31 : decode cX10_hears 31 = .ok (.baload, 1) := dk_51 (dk_at dksX10_hears_1 7 rfl rfl)
theorem dX10_hears_32 : decode cX10_hears 32 = .ok (.ifCond .ne 6, 3) := dk_154 0 6 (dk_at dksX10_hears_1 8 rfl rfl)
theorem dX10_hears_35 : decode cX10_hears 35 = .ok (.iload 4, 2) := dk_21 4 (dk_at dksX10_hears_1 11 rfl rfl)
theorem dX10_hears_37 : decode cX10_hears 37 = .ok (.ireturn, 1) := dk_172 (dk_at dksX10_hears_1 13 rfl rfl)
theorem dX10_hears_38 : decode cX10_hears 38 = .ok (.aload_n 0, 1) := dk_42 (dk_at dksX10_hears_1 14 rfl rfl)
theorem dX10_hears_39 : decode cX10_hears 39 = .ok (.iload_n 1, 1) := dk_27 (dk_at dksX10_hears_1 15 rfl rfl)
theorem dX10_hears_40 : decode cX10_hears 40 = .ok (.iload_n 2, 1) := dk_28 (dk_at dksX10_hears_1 16 rfl rfl)
theorem dX10_hears_41 : decode cX10_hears 41 = .ok (.iload_n 3, 1) := dk_29 (dk_at dksX10_hears_1 17 rfl rfl)
theorem dX10_hears_42 : decode cX10_hears 42 = .ok (.invokevirtual 414, 3) := dk_182 1 158 (dk_at dksX10_hears_1 18 rfl rfl)
theorem dX10_hears_45 : decode cX10_hears 45 = .ok (.aload_n 0, 1) := dk_42 (dk_at dksX10_hears_1 21 rfl rfl)
theorem dX10_hears_46 : decode cX10_hears 46 = .ok (.iconst 1, 1) := dk_4 (dk_at dksX10_hears_1 22 rfl rfl)
theorem dX10_hears_47 : decode cX10_hears 47 = .ok (.invokevirtual 417, 3) := dk_182 1 161 (dk_at dksX10_hears_2 0 rfl rfl)
theorem dX10_hears_50 : decode cX10_hears 50 = .ok (.lstore 5, 2) := dk_55 5 (dk_at dksX10_hears_2 3 rfl rfl)
theorem dX10_hears_52 : decode cX10_hears 52 = .ok (.aload_n 0, 1) := dk_42 (dk_at dksX10_hears_2 5 rfl rfl)
theorem dX10_hears_53 : decode cX10_hears 53 = .ok (.getfield 342, 3) := dk_180 1 86 (dk_at dksX10_hears_2 6 rfl rfl)
theorem dX10_hears_56 : decode cX10_hears 56 = .ok (.ifCond .eq 8, 3) := dk_153 0 8 (dk_at dksX10_hears_2 9 rfl rfl)
theorem dX10_hears_59 : decode cX10_hears 59 = .ok (.iload 4, 2) := dk_21 4 (dk_at dksX10_hears_2 12 rfl rfl)
theorem dX10_hears_61 : decode cX10_hears 61 = .ok (.goto 15, 3) := dk_167 0 15 (dk_at dksX10_hears_2 14 rfl rfl)
theorem dX10_hears_64 : decode cX10_hears 64 = .ok (.lload 5, 2) := dk_22 5 (dk_at dksX10_hears_2 17 rfl rfl)
theorem dX10_hears_66 : decode cX10_hears 66 = .ok (.lconst 0, 1) := dk_9 (dk_at dksX10_hears_2 19 rfl rfl)
theorem dX10_hears_67 : decode cX10_hears 67 = .ok (.lcmp, 1) := dk_148 (dk_at dksX10_hears_2 20 rfl rfl)
theorem dX10_hears_68 : decode cX10_hears 68 = .ok (.ifCond .eq 7, 3) := dk_153 0 7 (dk_at dksX10_hears_2 21 rfl rfl)
theorem dX10_hears_71 : decode cX10_hears 71 = .ok (.iconst 1, 1) := dk_4 (dk_at dksX10_hears_3 0 rfl rfl)
theorem dX10_hears_72 : decode cX10_hears 72 = .ok (.goto 4, 3) := dk_167 0 4 (dk_at dksX10_hears_3 1 rfl rfl)
theorem dX10_hears_75 : decode cX10_hears 75 = .ok (.iconst 0, 1) := dk_3 (dk_at dksX10_hears_3 4 rfl rfl)
theorem dX10_hears_76 : decode cX10_hears 76 = .ok (.ireturn, 1) := dk_172 (dk_at dksX10_hears_3 5 rfl rfl)
def dkwX10_isSlip_4 : List UInt8 := [21, 5, 42, 16, 100, 182, 1, 178, 164, 0, 7, 4, 167, 0, 4, 3, 172]
abbrev dktX10_isSlip_4 : List UInt8 := dkwX10_isSlip_4 ++ []
def dkwX10_isSlip_3 : List UInt8 := [16, 50, 161, 0, 7, 4, 167, 0, 4, 3, 172, 21, 5, 16, 100, 159, 0, 19, 21, 5, 158, 0, 18]
abbrev dktX10_isSlip_3 : List UInt8 := dkwX10_isSlip_3 ++ dktX10_isSlip_4
def dkwX10_isSlip_2 : List UInt8 := [154, 0, 5, 3, 172, 42, 27, 28, 29, 182, 1, 174, 54, 5, 42, 180, 1, 127, 154, 0, 16, 21, 5]
abbrev dktX10_isSlip_2 : List UInt8 := dkwX10_isSlip_2 ++ dktX10_isSlip_3
def dkwX10_isSlip_1 : List UInt8 := [159, 0, 26, 21, 4, 155, 0, 21, 42, 180, 0, 100, 8, 27, 104, 28, 96, 46, 21, 4, 184, 1, 8]
abbrev dktX10_isSlip_1 : List UInt8 := dkwX10_isSlip_1 ++ dktX10_isSlip_2
def dkwX10_isSlip_0 : List UInt8 := [42, 180, 0, 57, 29, 46, 54, 4, 42, 180, 1, 133, 154, 0, 36, 42, 180, 0, 48, 29, 46, 6]
abbrev dktX10_isSlip_0 : List UInt8 := dkwX10_isSlip_0 ++ dktX10_isSlip_1
theorem dksX10_isSlip_0 : cX10_isSlip.data.toList.drop 0 = dktX10_isSlip_0 := by decide +kernel
theorem dksX10_isSlip_1 : cX10_isSlip.data.toList.drop 22 = dktX10_isSlip_1 := dk_seg dksX10_isSlip_0 22 rfl rfl
theorem dksX10_isSlip_2 : cX10_isSlip.data.toList.drop 45 = dktX10_isSlip_2 := dk_seg dksX10_isSlip_1 23 rfl rfl
theorem dksX10_isSlip_3 : cX10_isSlip.data.toList.drop 68 = dktX10_isSlip_3 := dk_seg dksX10_isSlip_2 23 rfl rfl
theorem dksX10_isSlip_4 : cX10_isSlip.data.toList.drop 91 = dktX10_isSlip_4 := dk_seg dksX10_isSlip_3 23 rfl rfl
theorem dX10_isSlip_0 : decode cX10_isSlip 0 = .ok (.aload_n 0, 1) := dk_42 (dk_at dksX10_isSlip_0 0 rfl rfl)
theorem dX10_isSlip_1 : decode cX10_isSlip 1 = .ok (.getfield 57, 3) := dk_180 0 57 (dk_at dksX10_isSlip_0 1 rfl rfl)
theorem dX10_isSlip_4 : decode cX10_isSlip 4 = .ok (.iload_n 3, 1) := dk_29 (dk_at dksX10_isSlip_0 4 rfl rfl)
theorem dX10_isSlip_5 : decode cX10_isSlip 5 = .ok (.iaload, 1) := dk_46 (dk_at dksX10_isSlip_0 5 rfl rfl)
theorem dX10_isSlip_6 : decode cX10_isSlip 6 = .ok (.istore 4, 2) := dk_54 4 (dk_at dksX10_isSlip_0 6 rfl rfl)
theorem dX10_isSlip_8 : decode cX10_isSlip 8 = .ok (.aload_n 0, 1) := dk_42 (dk_at dksX10_isSlip_0 8 rfl rfl)
theorem dX10_isSlip_9 : decode cX10_isSlip 9 = .ok (.getfield 389, 3) := dk_180 1 133 (dk_at dksX10_isSlip_0 9 rfl rfl)
theorem dX10_isSlip_12 : decode cX10_isSlip 12 = .ok (.ifCond .ne 36, 3) := dk_154 0 36 (dk_at dksX10_isSlip_0 12 rfl rfl)
theorem dX10_isSlip_15 : decode cX10_isSlip 15 = .ok (.aload_n 0, 1) := dk_42 (dk_at dksX10_isSlip_0 15 rfl rfl)
theorem dX10_isSlip_16 : decode cX10_isSlip 16 = .ok (.getfield 48, 3) := dk_180 0 48 (dk_at dksX10_isSlip_0 16 rfl rfl)
theorem dX10_isSlip_19 : decode cX10_isSlip 19 = .ok (.iload_n 3, 1) := dk_29 (dk_at dksX10_isSlip_0 19 rfl rfl)
theorem dX10_isSlip_20 : decode cX10_isSlip 20 = .ok (.iaload, 1) := dk_46 (dk_at dksX10_isSlip_0 20 rfl rfl)
theorem dX10_isSlip_21 : decode cX10_isSlip 21 = .ok (.iconst 3, 1) := dk_6 (dk_at dksX10_isSlip_0 21 rfl rfl)
theorem dX10_isSlip_22 : decode cX10_isSlip 22 = .ok (.if_icmp .eq 26, 3) := dk_159 0 26 (dk_at dksX10_isSlip_1 0 rfl rfl)
theorem dX10_isSlip_25 : decode cX10_isSlip 25 = .ok (.iload 4, 2) := dk_21 4 (dk_at dksX10_isSlip_1 3 rfl rfl)
theorem dX10_isSlip_27 : decode cX10_isSlip 27 = .ok (.ifCond .lt 21, 3) := dk_155 0 21 (dk_at dksX10_isSlip_1 5 rfl rfl)
theorem dX10_isSlip_30 : decode cX10_isSlip 30 = .ok (.aload_n 0, 1) := dk_42 (dk_at dksX10_isSlip_1 8 rfl rfl)
theorem dX10_isSlip_31 : decode cX10_isSlip 31 = .ok (.getfield 100, 3) := dk_180 0 100 (dk_at dksX10_isSlip_1 9 rfl rfl)
theorem dX10_isSlip_34 : decode cX10_isSlip 34 = .ok (.iconst 5, 1) := dk_8 (dk_at dksX10_isSlip_1 12 rfl rfl)
theorem dX10_isSlip_35 : decode cX10_isSlip 35 = .ok (.iload_n 1, 1) := dk_27 (dk_at dksX10_isSlip_1 13 rfl rfl)
theorem dX10_isSlip_36 : decode cX10_isSlip 36 = .ok (.imul, 1) := dk_104 (dk_at dksX10_isSlip_1 14 rfl rfl)
theorem dX10_isSlip_37 : decode cX10_isSlip 37 = .ok (.iload_n 2, 1) := dk_28 (dk_at dksX10_isSlip_1 15 rfl rfl)
theorem dX10_isSlip_38 : decode cX10_isSlip 38 = .ok (.iadd, 1) := dk_96 (dk_at dksX10_isSlip_1 16 rfl rfl)
theorem dX10_isSlip_39 : decode cX10_isSlip 39 = .ok (.iaload, 1) := dk_46 (dk_at dksX10_isSlip_1 17 rfl rfl)
theorem dX10_isSlip_40 : decode cX10_isSlip 40 = .ok (.iload 4, 2) := dk_21 4 (dk_at dksX10_isSlip_1 18 rfl rfl)
theorem dX10_isSlip_42 : decode cX10_isSlip 42 = .ok (.invokestatic 264, 3) := dk_184 1 8 (dk_at dksX10_isSlip_1 20 rfl rfl)
theorem dX10_isSlip_45 : decode cX10_isSlip 45 = .ok (.ifCond .ne 5, 3) := dk_154 0 5 (dk_at dksX10_isSlip_2 0 rfl rfl)
theorem dX10_isSlip_48 : decode cX10_isSlip 48 = .ok (.iconst 0, 1) := dk_3 (dk_at dksX10_isSlip_2 3 rfl rfl)
theorem dX10_isSlip_49 : decode cX10_isSlip 49 = .ok (.ireturn, 1) := dk_172 (dk_at dksX10_isSlip_2 4 rfl rfl)
theorem dX10_isSlip_50 : decode cX10_isSlip 50 = .ok (.aload_n 0, 1) := dk_42 (dk_at dksX10_isSlip_2 5 rfl rfl)
theorem dX10_isSlip_51 : decode cX10_isSlip 51 = .ok (.iload_n 1, 1) := dk_27 (dk_at dksX10_isSlip_2 6 rfl rfl)
theorem dX10_isSlip_52 : decode cX10_isSlip 52 = .ok (.iload_n 2, 1) := dk_28 (dk_at dksX10_isSlip_2 7 rfl rfl)
theorem dX10_isSlip_53 : decode cX10_isSlip 53 = .ok (.iload_n 3, 1) := dk_29 (dk_at dksX10_isSlip_2 8 rfl rfl)
theorem dX10_isSlip_54 : decode cX10_isSlip 54 = .ok (.invokevirtual 430, 3) := dk_182 1 174 (dk_at dksX10_isSlip_2 9 rfl rfl)
theorem dX10_isSlip_57 : decode cX10_isSlip 57 = .ok (.istore 5, 2) := dk_54 5 (dk_at dksX10_isSlip_2 12 rfl rfl)
theorem dX10_isSlip_59 : decode cX10_isSlip 59 = .ok (.aload_n 0, 1) := dk_42 (dk_at dksX10_isSlip_2 14 rfl rfl)
theorem dX10_isSlip_60 : decode cX10_isSlip 60 = .ok (.getfield 383, 3) := dk_180 1 127 (dk_at dksX10_isSlip_2 15 rfl rfl)
theorem dX10_isSlip_63 : decode cX10_isSlip 63 = .ok (.ifCond .ne 16, 3) := dk_154 0 16 (dk_at dksX10_isSlip_2 18 rfl rfl)
theorem dX10_isSlip_66 : decode cX10_isSlip 66 = .ok (.iload 5, 2) := dk_21 5 (dk_at dksX10_isSlip_2 21 rfl rfl)
theorem dX10_isSlip_68 : decode cX10_isSlip 68 = .ok (.bipush 50, 2) := dk_16 50 (dk_at dksX10_isSlip_3 0 rfl rfl)
theorem dX10_isSlip_70 : decode cX10_isSlip 70 = .ok (.if_icmp .lt 7, 3) := dk_161 0 7 (dk_at dksX10_isSlip_3 2 rfl rfl)
theorem dX10_isSlip_73 : decode cX10_isSlip 73 = .ok (.iconst 1, 1) := dk_4 (dk_at dksX10_isSlip_3 5 rfl rfl)
theorem dX10_isSlip_74 : decode cX10_isSlip 74 = .ok (.goto 4, 3) := dk_167 0 4 (dk_at dksX10_isSlip_3 6 rfl rfl)
theorem dX10_isSlip_77 : decode cX10_isSlip 77 = .ok (.iconst 0, 1) := dk_3 (dk_at dksX10_isSlip_3 9 rfl rfl)
theorem dX10_isSlip_78 : decode cX10_isSlip 78 = .ok (.ireturn, 1) := dk_172 (dk_at dksX10_isSlip_3 10 rfl rfl)
theorem dX10_isSlip_79 : decode cX10_isSlip 79 = .ok (.iload 5, 2) := dk_21 5 (dk_at dksX10_isSlip_3 11 rfl rfl)
theorem dX10_isSlip_81 : decode cX10_isSlip 81 = .ok (.bipush 100, 2) := dk_16 100 (dk_at dksX10_isSlip_3 13 rfl rfl)
theorem dX10_isSlip_83 : decode cX10_isSlip 83 = .ok (.if_icmp .eq 19, 3) := dk_159 0 19 (dk_at dksX10_isSlip_3 15 rfl rfl)
theorem dX10_isSlip_86 : decode cX10_isSlip 86 = .ok (.iload 5, 2) := dk_21 5 (dk_at dksX10_isSlip_3 18 rfl rfl)
theorem dX10_isSlip_88 : decode cX10_isSlip 88 = .ok (.ifCond .le 18, 3) := dk_158 0 18 (dk_at dksX10_isSlip_3 20 rfl rfl)
theorem dX10_isSlip_91 : decode cX10_isSlip 91 = .ok (.iload 5, 2) := dk_21 5 (dk_at dksX10_isSlip_4 0 rfl rfl)
theorem dX10_isSlip_93 : decode cX10_isSlip 93 = .ok (.aload_n 0, 1) := dk_42 (dk_at dksX10_isSlip_4 2 rfl rfl)
theorem dX10_isSlip_94 : decode cX10_isSlip 94 = .ok (.bipush 100, 2) := dk_16 100 (dk_at dksX10_isSlip_4 3 rfl rfl)
theorem dX10_isSlip_96 : decode cX10_isSlip 96 = .ok (.invokevirtual 434, 3) := dk_182 1 178 (dk_at dksX10_isSlip_4 5 rfl rfl)
theorem dX10_isSlip_99 : decode cX10_isSlip 99 = .ok (.if_icmp .le 7, 3) := dk_164 0 7 (dk_at dksX10_isSlip_4 8 rfl rfl)
theorem dX10_isSlip_102 : decode cX10_isSlip 102 = .ok (.iconst 1, 1) := dk_4 (dk_at dksX10_isSlip_4 11 rfl rfl)
theorem dX10_isSlip_103 : decode cX10_isSlip 103 = .ok (.goto 4, 3) := dk_167 0 4 (dk_at dksX10_isSlip_4 12 rfl rfl)
theorem dX10_isSlip_106 : decode cX10_isSlip 106 = .ok (.iconst 0, 1) := dk_3 (dk_at dksX10_isSlip_4 15 rfl rfl)
theorem dX10_isSlip_107 : decode cX10_isSlip 107 = .ok (.ireturn, 1) := dk_172 (dk_at dksX10_isSlip_4 16 rfl rfl)
def dkwX10_slipOf_3 : List UInt8 := [16, 100, 167, 0, 6, 22, 5, 136, 172]
abbrev dktX10_slipOf_3 : List UInt8 := dkwX10_slipOf_3 ++ []
def dkwX10_slipOf_2 : List UInt8 := [167, 0, 31, 22, 5, 9, 148, 156, 0, 7, 3, 167, 0, 20, 22, 5, 20, 1, 164, 148, 158, 0, 8]
abbrev dktX10_slipOf_2 : List UInt8 := dkwX10_slipOf_2 ++ dktX10_slipOf_3
def dkwX10_slipOf_1 : List UInt8 := [27, 28, 29, 182, 1, 158, 42, 3, 182, 1, 161, 55, 5, 42, 180, 1, 86, 153, 0, 8, 21, 4]
abbrev dktX10_slipOf_1 : List UInt8 := dkwX10_slipOf_1 ++ dktX10_slipOf_2
def dkwX10_slipOf_0 : List UInt8 := [16, 10, 42, 180, 0, 33, 28, 46, 104, 54, 4, 42, 180, 0, 69, 3, 51, 154, 0, 6, 21, 4, 172, 42]
abbrev dktX10_slipOf_0 : List UInt8 := dkwX10_slipOf_0 ++ dktX10_slipOf_1
theorem dksX10_slipOf_0 : cX10_slipOf.data.toList.drop 0 = dktX10_slipOf_0 := by decide +kernel
theorem dksX10_slipOf_1 : cX10_slipOf.data.toList.drop 24 = dktX10_slipOf_1 := dk_seg dksX10_slipOf_0 24 rfl rfl
theorem dksX10_slipOf_2 : cX10_slipOf.data.toList.drop 46 = dktX10_slipOf_2 := dk_seg dksX10_slipOf_1 22 rfl rfl
theorem dksX10_slipOf_3 : cX10_slipOf.data.toList.drop 69 = dktX10_slipOf_3 := dk_seg dksX10_slipOf_2 23 rfl rfl
theorem dX10_slipOf_0 : decode cX10_slipOf 0 = .ok (.bipush 10, 2) := dk_16 10 (dk_at dksX10_slipOf_0 0 rfl rfl)
theorem dX10_slipOf_2 : decode cX10_slipOf 2 = .ok (.aload_n 0, 1) := dk_42 (dk_at dksX10_slipOf_0 2 rfl rfl)
theorem dX10_slipOf_3 : decode cX10_slipOf 3 = .ok (.getfield 33, 3) := dk_180 0 33 (dk_at dksX10_slipOf_0 3 rfl rfl)
theorem dX10_slipOf_6 : decode cX10_slipOf 6 = .ok (.iload_n 2, 1) := dk_28 (dk_at dksX10_slipOf_0 6 rfl rfl)
theorem dX10_slipOf_7 : decode cX10_slipOf 7 = .ok (.iaload, 1) := dk_46 (dk_at dksX10_slipOf_0 7 rfl rfl)
theorem dX10_slipOf_8 : decode cX10_slipOf 8 = .ok (.imul, 1) := dk_104 (dk_at dksX10_slipOf_0 8 rfl rfl)
theorem dX10_slipOf_9 : decode cX10_slipOf 9 = .ok (.istore 4, 2) := dk_54 4 (dk_at dksX10_slipOf_0 9 rfl rfl)
theorem dX10_slipOf_11 : decode cX10_slipOf 11 = .ok (.aload_n 0, 1) := dk_42 (dk_at dksX10_slipOf_0 11 rfl rfl)
theorem dX10_slipOf_12 : decode cX10_slipOf 12 = .ok (.getfield 69, 3) := dk_180 0 69 (dk_at dksX10_slipOf_0 12 rfl rfl)
theorem dX10_slipOf_15 : decode cX10_slipOf 15 = .ok (.iconst 0, 1) := dk_3 (dk_at dksX10_slipOf_0 15 rfl rfl)
theorem dX10_slipOf_16 : decode cX10_slipOf 16 = .ok (.baload, 1) := dk_51 (dk_at dksX10_slipOf_0 16 rfl rfl)
theorem dX10_slipOf_17 : decode cX10_slipOf 17 = .ok (.ifCond .ne 6, 3) := dk_154 0 6 (dk_at dksX10_slipOf_0 17 rfl rfl)
theorem dX10_slipOf_20 : decode cX10_slipOf 20 = .ok (.iload 4, 2) := dk_21 4 (dk_at dksX10_slipOf_0 20 rfl rfl)
theorem dX10_slipOf_22 : decode cX10_slipOf 22 = .ok (.ireturn, 1) := dk_172 (dk_at dksX10_slipOf_0 22 rfl rfl)
theorem dX10_slipOf_23 : decode cX10_slipOf 23 = .ok (.aload_n 0, 1) := dk_42 (dk_at dksX10_slipOf_0 23 rfl rfl)
theorem dX10_slipOf_24 : decode cX10_slipOf 24 = .ok (.iload_n 1, 1) := dk_27 (dk_at dksX10_slipOf_1 0 rfl rfl)
theorem dX10_slipOf_25 : decode cX10_slipOf 25 = .ok (.iload_n 2, 1) := dk_28 (dk_at dksX10_slipOf_1 1 rfl rfl)
theorem dX10_slipOf_26 : decode cX10_slipOf 26 = .ok (.iload_n 3, 1) := dk_29 (dk_at dksX10_slipOf_1 2 rfl rfl)
theorem dX10_slipOf_27 : decode cX10_slipOf 27 = .ok (.invokevirtual 414, 3) := dk_182 1 158 (dk_at dksX10_slipOf_1 3 rfl rfl)
theorem dX10_slipOf_30 : decode cX10_slipOf 30 = .ok (.aload_n 0, 1) := dk_42 (dk_at dksX10_slipOf_1 6 rfl rfl)
theorem dX10_slipOf_31 : decode cX10_slipOf 31 = .ok (.iconst 0, 1) := dk_3 (dk_at dksX10_slipOf_1 7 rfl rfl)
theorem dX10_slipOf_32 : decode cX10_slipOf 32 = .ok (.invokevirtual 417, 3) := dk_182 1 161 (dk_at dksX10_slipOf_1 8 rfl rfl)
theorem dX10_slipOf_35 : decode cX10_slipOf 35 = .ok (.lstore 5, 2) := dk_55 5 (dk_at dksX10_slipOf_1 11 rfl rfl)
theorem dX10_slipOf_37 : decode cX10_slipOf 37 = .ok (.aload_n 0, 1) := dk_42 (dk_at dksX10_slipOf_1 13 rfl rfl)
theorem dX10_slipOf_38 : decode cX10_slipOf 38 = .ok (.getfield 342, 3) := dk_180 1 86 (dk_at dksX10_slipOf_1 14 rfl rfl)
theorem dX10_slipOf_41 : decode cX10_slipOf 41 = .ok (.ifCond .eq 8, 3) := dk_153 0 8 (dk_at dksX10_slipOf_1 17 rfl rfl)
theorem dX10_slipOf_44 : decode cX10_slipOf 44 = .ok (.iload 4, 2) := dk_21 4 (dk_at dksX10_slipOf_1 20 rfl rfl)
theorem dX10_slipOf_46 : decode cX10_slipOf 46 = .ok (.goto 31, 3) := dk_167 0 31 (dk_at dksX10_slipOf_2 0 rfl rfl)
theorem dX10_slipOf_49 : decode cX10_slipOf 49 = .ok (.lload 5, 2) := dk_22 5 (dk_at dksX10_slipOf_2 3 rfl rfl)
theorem dX10_slipOf_51 : decode cX10_slipOf 51 = .ok (.lconst 0, 1) := dk_9 (dk_at dksX10_slipOf_2 5 rfl rfl)
theorem dX10_slipOf_52 : decode cX10_slipOf 52 = .ok (.lcmp, 1) := dk_148 (dk_at dksX10_slipOf_2 6 rfl rfl)
theorem dX10_slipOf_53 : decode cX10_slipOf 53 = .ok (.ifCond .ge 7, 3) := dk_156 0 7 (dk_at dksX10_slipOf_2 7 rfl rfl)
theorem dX10_slipOf_56 : decode cX10_slipOf 56 = .ok (.iconst 0, 1) := dk_3 (dk_at dksX10_slipOf_2 10 rfl rfl)
theorem dX10_slipOf_57 : decode cX10_slipOf 57 = .ok (.goto 20, 3) := dk_167 0 20 (dk_at dksX10_slipOf_2 11 rfl rfl)
theorem dX10_slipOf_60 : decode cX10_slipOf 60 = .ok (.lload 5, 2) := dk_22 5 (dk_at dksX10_slipOf_2 14 rfl rfl)
theorem dX10_slipOf_62 : decode cX10_slipOf 62 = .ok (.ldc2_w 420, 3) := dk_20 1 164 (dk_at dksX10_slipOf_2 16 rfl rfl)
theorem dX10_slipOf_65 : decode cX10_slipOf 65 = .ok (.lcmp, 1) := dk_148 (dk_at dksX10_slipOf_2 19 rfl rfl)
theorem dX10_slipOf_66 : decode cX10_slipOf 66 = .ok (.ifCond .le 8, 3) := dk_158 0 8 (dk_at dksX10_slipOf_2 20 rfl rfl)
theorem dX10_slipOf_69 : decode cX10_slipOf 69 = .ok (.bipush 100, 2) := dk_16 100 (dk_at dksX10_slipOf_3 0 rfl rfl)
theorem dX10_slipOf_71 : decode cX10_slipOf 71 = .ok (.goto 6, 3) := dk_167 0 6 (dk_at dksX10_slipOf_3 2 rfl rfl)
theorem dX10_slipOf_74 : decode cX10_slipOf 74 = .ok (.lload 5, 2) := dk_22 5 (dk_at dksX10_slipOf_3 5 rfl rfl)
theorem dX10_slipOf_76 : decode cX10_slipOf 76 = .ok (.l2i, 1) := dk_136 (dk_at dksX10_slipOf_3 7 rfl rfl)
theorem dX10_slipOf_77 : decode cX10_slipOf 77 = .ok (.ireturn, 1) := dk_172 (dk_at dksX10_slipOf_3 8 rfl rfl)
def dkwX10_number1_1 : List UInt8 := [20, 1, 172, 109, 27, 133, 113, 136, 172]
abbrev dktX10_number1_1 : List UInt8 := dkwX10_number1_1 ++ []
def dkwX10_number1_0 : List UInt8 := [42, 42, 180, 1, 111, 20, 1, 166, 105, 20, 1, 168, 97, 20, 1, 170, 127, 181, 1, 111, 42, 180, 1, 111]
abbrev dktX10_number1_0 : List UInt8 := dkwX10_number1_0 ++ dktX10_number1_1
theorem dksX10_number1_0 : cX10_number1.data.toList.drop 0 = dktX10_number1_0 := by decide +kernel
theorem dksX10_number1_1 : cX10_number1.data.toList.drop 24 = dktX10_number1_1 := dk_seg dksX10_number1_0 24 rfl rfl
theorem dX10_number1_0 : decode cX10_number1 0 = .ok (.aload_n 0, 1) := dk_42 (dk_at dksX10_number1_0 0 rfl rfl)
theorem dX10_number1_1 : decode cX10_number1 1 = .ok (.aload_n 0, 1) := dk_42 (dk_at dksX10_number1_0 1 rfl rfl)
theorem dX10_number1_2 : decode cX10_number1 2 = .ok (.getfield 367, 3) := dk_180 1 111 (dk_at dksX10_number1_0 2 rfl rfl)
theorem dX10_number1_5 : decode cX10_number1 5 = .ok (.ldc2_w 422, 3) := dk_20 1 166 (dk_at dksX10_number1_0 5 rfl rfl)
theorem dX10_number1_8 : decode cX10_number1 8 = .ok (.lmul, 1) := dk_105 (dk_at dksX10_number1_0 8 rfl rfl)
theorem dX10_number1_9 : decode cX10_number1 9 = .ok (.ldc2_w 424, 3) := dk_20 1 168 (dk_at dksX10_number1_0 9 rfl rfl)
theorem dX10_number1_12 : decode cX10_number1 12 = .ok (.ladd, 1) := dk_97 (dk_at dksX10_number1_0 12 rfl rfl)
theorem dX10_number1_13 : decode cX10_number1 13 = .ok (.ldc2_w 426, 3) := dk_20 1 170 (dk_at dksX10_number1_0 13 rfl rfl)
theorem dX10_number1_16 : decode cX10_number1 16 = .ok (.land, 1) := dk_127 (dk_at dksX10_number1_0 16 rfl rfl)
theorem dX10_number1_17 : decode cX10_number1 17 = .ok (.putfield 367, 3) := dk_181 1 111 (dk_at dksX10_number1_0 17 rfl rfl)
theorem dX10_number1_20 : decode cX10_number1 20 = .ok (.aload_n 0, 1) := dk_42 (dk_at dksX10_number1_0 20 rfl rfl)
theorem dX10_number1_21 : decode cX10_number1 21 = .ok (.getfield 367, 3) := dk_180 1 111 (dk_at dksX10_number1_0 21 rfl rfl)
theorem dX10_number1_24 : decode cX10_number1 24 = .ok (.ldc2_w 428, 3) := dk_20 1 172 (dk_at dksX10_number1_1 0 rfl rfl)
theorem dX10_number1_27 : decode cX10_number1 27 = .ok (.ldiv, 1) := dk_109 (dk_at dksX10_number1_1 3 rfl rfl)
theorem dX10_number1_28 : decode cX10_number1 28 = .ok (.iload_n 1, 1) := dk_27 (dk_at dksX10_number1_1 4 rfl rfl)
theorem dX10_number1_29 : decode cX10_number1 29 = .ok (.i2l, 1) := dk_133 (dk_at dksX10_number1_1 5 rfl rfl)
theorem dX10_number1_30 : decode cX10_number1 30 = .ok (.lrem, 1) := dk_113 (dk_at dksX10_number1_1 6 rfl rfl)
theorem dX10_number1_31 : decode cX10_number1 31 = .ok (.l2i, 1) := dk_136 (dk_at dksX10_number1_1 7 rfl rfl)
theorem dX10_number1_32 : decode cX10_number1 32 = .ok (.ireturn, 1) := dk_172 (dk_at dksX10_number1_1 8 rfl rfl)
def dkwX10_tell_2 : List UInt8 := [46, 4, 28, 120, 128, 79, 4, 172]
abbrev dktX10_tell_2 : List UInt8 := dkwX10_tell_2 ++ []
def dkwX10_tell_1 : List UInt8 := [180, 0, 100, 27, 46, 28, 184, 1, 8, 153, 0, 5, 3, 172, 42, 182, 1, 202, 42, 180, 0, 100, 27, 92]
abbrev dktX10_tell_1 : List UInt8 := dkwX10_tell_1 ++ dktX10_tell_2
def dkwX10_tell_0 : List UInt8 := [42, 3, 181, 0, 148, 42, 27, 182, 1, 187, 153, 0, 24, 42, 28, 182, 1, 208, 153, 0, 16, 42]
abbrev dktX10_tell_0 : List UInt8 := dkwX10_tell_0 ++ dktX10_tell_1
theorem dksX10_tell_0 : cX10_tell.data.toList.drop 0 = dktX10_tell_0 := by decide +kernel
theorem dksX10_tell_1 : cX10_tell.data.toList.drop 22 = dktX10_tell_1 := dk_seg dksX10_tell_0 22 rfl rfl
theorem dksX10_tell_2 : cX10_tell.data.toList.drop 46 = dktX10_tell_2 := dk_seg dksX10_tell_1 24 rfl rfl
theorem dX10_tell_0 : decode cX10_tell 0 = .ok (.aload_n 0, 1) := dk_42 (dk_at dksX10_tell_0 0 rfl rfl)
theorem dX10_tell_1 : decode cX10_tell 1 = .ok (.iconst 0, 1) := dk_3 (dk_at dksX10_tell_0 1 rfl rfl)
theorem dX10_tell_2 : decode cX10_tell 2 = .ok (.putfield 148, 3) := dk_181 0 148 (dk_at dksX10_tell_0 2 rfl rfl)
theorem dX10_tell_5 : decode cX10_tell 5 = .ok (.aload_n 0, 1) := dk_42 (dk_at dksX10_tell_0 5 rfl rfl)
theorem dX10_tell_6 : decode cX10_tell 6 = .ok (.iload_n 1, 1) := dk_27 (dk_at dksX10_tell_0 6 rfl rfl)
theorem dX10_tell_7 : decode cX10_tell 7 = .ok (.invokevirtual 443, 3) := dk_182 1 187 (dk_at dksX10_tell_0 7 rfl rfl)
theorem dX10_tell_10 : decode cX10_tell 10 = .ok (.ifCond .eq 24, 3) := dk_153 0 24 (dk_at dksX10_tell_0 10 rfl rfl)
theorem dX10_tell_13 : decode cX10_tell 13 = .ok (.aload_n 0, 1) := dk_42 (dk_at dksX10_tell_0 13 rfl rfl)
theorem dX10_tell_14 : decode cX10_tell 14 = .ok (.iload_n 2, 1) := dk_28 (dk_at dksX10_tell_0 14 rfl rfl)
theorem dX10_tell_15 : decode cX10_tell 15 = .ok (.invokevirtual 464, 3) := dk_182 1 208 (dk_at dksX10_tell_0 15 rfl rfl)
theorem dX10_tell_18 : decode cX10_tell 18 = .ok (.ifCond .eq 16, 3) := dk_153 0 16 (dk_at dksX10_tell_0 18 rfl rfl)
theorem dX10_tell_21 : decode cX10_tell 21 = .ok (.aload_n 0, 1) := dk_42 (dk_at dksX10_tell_0 21 rfl rfl)
theorem dX10_tell_22 : decode cX10_tell 22 = .ok (.getfield 100, 3) := dk_180 0 100 (dk_at dksX10_tell_1 0 rfl rfl)
theorem dX10_tell_25 : decode cX10_tell 25 = .ok (.iload_n 1, 1) := dk_27 (dk_at dksX10_tell_1 3 rfl rfl)
theorem dX10_tell_26 : decode cX10_tell 26 = .ok (.iaload, 1) := dk_46 (dk_at dksX10_tell_1 4 rfl rfl)
theorem dX10_tell_27 : decode cX10_tell 27 = .ok (.iload_n 2, 1) := dk_28 (dk_at dksX10_tell_1 5 rfl rfl)
theorem dX10_tell_28 : decode cX10_tell 28 = .ok (.invokestatic 264, 3) := dk_184 1 8 (dk_at dksX10_tell_1 6 rfl rfl)
theorem dX10_tell_31 : decode cX10_tell 31 = .ok (.ifCond .eq 5, 3) := dk_153 0 5 (dk_at dksX10_tell_1 9 rfl rfl)
theorem dX10_tell_34 : decode cX10_tell 34 = .ok (.iconst 0, 1) := dk_3 (dk_at dksX10_tell_1 12 rfl rfl)
theorem dX10_tell_35 : decode cX10_tell 35 = .ok (.ireturn, 1) := dk_172 (dk_at dksX10_tell_1 13 rfl rfl)
theorem dX10_tell_36 : decode cX10_tell 36 = .ok (.aload_n 0, 1) := dk_42 (dk_at dksX10_tell_1 14 rfl rfl)
theorem dX10_tell_37 : decode cX10_tell 37 = .ok (.invokevirtual 458, 3) := dk_182 1 202 (dk_at dksX10_tell_1 15 rfl rfl)
theorem dX10_tell_40 : decode cX10_tell 40 = .ok (.aload_n 0, 1) := dk_42 (dk_at dksX10_tell_1 18 rfl rfl)
theorem dX10_tell_41 : decode cX10_tell 41 = .ok (.getfield 100, 3) := dk_180 0 100 (dk_at dksX10_tell_1 19 rfl rfl)
theorem dX10_tell_44 : decode cX10_tell 44 = .ok (.iload_n 1, 1) := dk_27 (dk_at dksX10_tell_1 22 rfl rfl)
theorem dX10_tell_45 : decode cX10_tell 45 = .ok (.dup2, 1) := dk_92 (dk_at dksX10_tell_1 23 rfl rfl)
theorem dX10_tell_46 : decode cX10_tell 46 = .ok (.iaload, 1) := dk_46 (dk_at dksX10_tell_2 0 rfl rfl)
theorem dX10_tell_47 : decode cX10_tell 47 = .ok (.iconst 1, 1) := dk_4 (dk_at dksX10_tell_2 1 rfl rfl)
theorem dX10_tell_48 : decode cX10_tell 48 = .ok (.iload_n 2, 1) := dk_28 (dk_at dksX10_tell_2 2 rfl rfl)
theorem dX10_tell_49 : decode cX10_tell 49 = .ok (.ishl, 1) := dk_120 (dk_at dksX10_tell_2 3 rfl rfl)
theorem dX10_tell_50 : decode cX10_tell 50 = .ok (.ior, 1) := dk_128 (dk_at dksX10_tell_2 4 rfl rfl)
theorem dX10_tell_51 : decode cX10_tell 51 = .ok (.iastore, 1) := dk_79 (dk_at dksX10_tell_2 5 rfl rfl)
theorem dX10_tell_52 : decode cX10_tell 52 = .ok (.iconst 1, 1) := dk_4 (dk_at dksX10_tell_2 6 rfl rfl)
theorem dX10_tell_53 : decode cX10_tell 53 = .ok (.ireturn, 1) := dk_172 (dk_at dksX10_tell_2 7 rfl rfl)
def dkwX10_isFact_0 : List UInt8 := [27, 155, 0, 15, 27, 42, 180, 0, 228, 162, 0, 7, 4, 167, 0, 4, 3, 172]
abbrev dktX10_isFact_0 : List UInt8 := dkwX10_isFact_0 ++ []
theorem dksX10_isFact_0 : cX10_isFact.data.toList.drop 0 = dktX10_isFact_0 := by decide +kernel
theorem dX10_isFact_0 : decode cX10_isFact 0 = .ok (.iload_n 1, 1) := dk_27 (dk_at dksX10_isFact_0 0 rfl rfl)
theorem dX10_isFact_1 : decode cX10_isFact 1 = .ok (.ifCond .lt 15, 3) := dk_155 0 15 (dk_at dksX10_isFact_0 1 rfl rfl)
theorem dX10_isFact_4 : decode cX10_isFact 4 = .ok (.iload_n 1, 1) := dk_27 (dk_at dksX10_isFact_0 4 rfl rfl)
theorem dX10_isFact_5 : decode cX10_isFact 5 = .ok (.aload_n 0, 1) := dk_42 (dk_at dksX10_isFact_0 5 rfl rfl)
theorem dX10_isFact_6 : decode cX10_isFact 6 = .ok (.getfield 228, 3) := dk_180 0 228 (dk_at dksX10_isFact_0 6 rfl rfl)
theorem dX10_isFact_9 : decode cX10_isFact 9 = .ok (.if_icmp .ge 7, 3) := dk_162 0 7 (dk_at dksX10_isFact_0 9 rfl rfl)
theorem dX10_isFact_12 : decode cX10_isFact 12 = .ok (.iconst 1, 1) := dk_4 (dk_at dksX10_isFact_0 12 rfl rfl)
theorem dX10_isFact_13 : decode cX10_isFact 13 = .ok (.goto 4, 3) := dk_167 0 4 (dk_at dksX10_isFact_0 13 rfl rfl)
theorem dX10_isFact_16 : decode cX10_isFact 16 = .ok (.iconst 0, 1) := dk_3 (dk_at dksX10_isFact_0 16 rfl rfl)
theorem dX10_isFact_17 : decode cX10_isFact 17 = .ok (.ireturn, 1) := dk_172 (dk_at dksX10_isFact_0 17 rfl rfl)
def dkwX10_send_1 : List UInt8 := [180, 0, 106, 27, 46, 28, 160, 0, 5, 3, 172, 42, 182, 1, 202, 42, 180, 0, 106, 27, 28, 79, 4, 172]
abbrev dktX10_send_1 : List UInt8 := dkwX10_send_1 ++ []
def dkwX10_send_0 : List UInt8 := [42, 3, 181, 0, 148, 42, 27, 182, 1, 187, 153, 0, 22, 28, 3, 6, 184, 0, 193, 153, 0, 13, 42]
abbrev dktX10_send_0 : List UInt8 := dkwX10_send_0 ++ dktX10_send_1
theorem dksX10_send_0 : cX10_send.data.toList.drop 0 = dktX10_send_0 := by decide +kernel
theorem dksX10_send_1 : cX10_send.data.toList.drop 23 = dktX10_send_1 := dk_seg dksX10_send_0 23 rfl rfl
theorem dX10_send_0 : decode cX10_send 0 = .ok (.aload_n 0, 1) := dk_42 (dk_at dksX10_send_0 0 rfl rfl)
theorem dX10_send_1 : decode cX10_send 1 = .ok (.iconst 0, 1) := dk_3 (dk_at dksX10_send_0 1 rfl rfl)
theorem dX10_send_2 : decode cX10_send 2 = .ok (.putfield 148, 3) := dk_181 0 148 (dk_at dksX10_send_0 2 rfl rfl)
theorem dX10_send_5 : decode cX10_send 5 = .ok (.aload_n 0, 1) := dk_42 (dk_at dksX10_send_0 5 rfl rfl)
theorem dX10_send_6 : decode cX10_send 6 = .ok (.iload_n 1, 1) := dk_27 (dk_at dksX10_send_0 6 rfl rfl)
theorem dX10_send_7 : decode cX10_send 7 = .ok (.invokevirtual 443, 3) := dk_182 1 187 (dk_at dksX10_send_0 7 rfl rfl)
theorem dX10_send_10 : decode cX10_send 10 = .ok (.ifCond .eq 22, 3) := dk_153 0 22 (dk_at dksX10_send_0 10 rfl rfl)
theorem dX10_send_13 : decode cX10_send 13 = .ok (.iload_n 2, 1) := dk_28 (dk_at dksX10_send_0 13 rfl rfl)
theorem dX10_send_14 : decode cX10_send 14 = .ok (.iconst 0, 1) := dk_3 (dk_at dksX10_send_0 14 rfl rfl)
theorem dX10_send_15 : decode cX10_send 15 = .ok (.iconst 3, 1) := dk_6 (dk_at dksX10_send_0 15 rfl rfl)
theorem dX10_send_16 : decode cX10_send 16 = .ok (.invokestatic 193, 3) := dk_184 0 193 (dk_at dksX10_send_0 16 rfl rfl)
theorem dX10_send_19 : decode cX10_send 19 = .ok (.ifCond .eq 13, 3) := dk_153 0 13 (dk_at dksX10_send_0 19 rfl rfl)
theorem dX10_send_22 : decode cX10_send 22 = .ok (.aload_n 0, 1) := dk_42 (dk_at dksX10_send_0 22 rfl rfl)
theorem dX10_send_23 : decode cX10_send 23 = .ok (.getfield 106, 3) := dk_180 0 106 (dk_at dksX10_send_1 0 rfl rfl)
theorem dX10_send_26 : decode cX10_send 26 = .ok (.iload_n 1, 1) := dk_27 (dk_at dksX10_send_1 3 rfl rfl)
theorem dX10_send_27 : decode cX10_send 27 = .ok (.iaload, 1) := dk_46 (dk_at dksX10_send_1 4 rfl rfl)
theorem dX10_send_28 : decode cX10_send 28 = .ok (.iload_n 2, 1) := dk_28 (dk_at dksX10_send_1 5 rfl rfl)
theorem dX10_send_29 : decode cX10_send 29 = .ok (.if_icmp .ne 5, 3) := dk_160 0 5 (dk_at dksX10_send_1 6 rfl rfl)
theorem dX10_send_32 : decode cX10_send 32 = .ok (.iconst 0, 1) := dk_3 (dk_at dksX10_send_1 9 rfl rfl)
theorem dX10_send_33 : decode cX10_send 33 = .ok (.ireturn, 1) := dk_172 (dk_at dksX10_send_1 10 rfl rfl)
theorem dX10_send_34 : decode cX10_send 34 = .ok (.aload_n 0, 1) := dk_42 (dk_at dksX10_send_1 11 rfl rfl)
theorem dX10_send_35 : decode cX10_send 35 = .ok (.invokevirtual 458, 3) := dk_182 1 202 (dk_at dksX10_send_1 12 rfl rfl)
theorem dX10_send_38 : decode cX10_send 38 = .ok (.aload_n 0, 1) := dk_42 (dk_at dksX10_send_1 15 rfl rfl)
theorem dX10_send_39 : decode cX10_send 39 = .ok (.getfield 106, 3) := dk_180 0 106 (dk_at dksX10_send_1 16 rfl rfl)
theorem dX10_send_42 : decode cX10_send 42 = .ok (.iload_n 1, 1) := dk_27 (dk_at dksX10_send_1 19 rfl rfl)
theorem dX10_send_43 : decode cX10_send 43 = .ok (.iload_n 2, 1) := dk_28 (dk_at dksX10_send_1 20 rfl rfl)
theorem dX10_send_44 : decode cX10_send 44 = .ok (.iastore, 1) := dk_79 (dk_at dksX10_send_1 21 rfl rfl)
theorem dX10_send_45 : decode cX10_send 45 = .ok (.iconst 1, 1) := dk_4 (dk_at dksX10_send_1 22 rfl rfl)
theorem dX10_send_46 : decode cX10_send 46 = .ok (.ireturn, 1) := dk_172 (dk_at dksX10_send_1 23 rfl rfl)
def dkwX10_end_2 : List UInt8 := [132, 1, 1, 167, 255, 241, 42, 180, 0, 112, 3, 46, 172]
abbrev dktX10_end_2 : List UInt8 := dkwX10_end_2 ++ []
def dkwX10_end_1 : List UInt8 := [180, 0, 112, 3, 92, 46, 4, 96, 79, 3, 60, 27, 8, 162, 0, 16, 42, 180, 0, 109, 27, 3, 79]
abbrev dktX10_end_1 : List UInt8 := dkwX10_end_1 ++ dktX10_end_2
def dkwX10_end_0 : List UInt8 := [42, 3, 181, 0, 148, 42, 180, 0, 112, 3, 46, 17, 3, 231, 160, 0, 5, 2, 172, 42, 182, 1, 202, 42]
abbrev dktX10_end_0 : List UInt8 := dkwX10_end_0 ++ dktX10_end_1
theorem dksX10_end_0 : cX10_end.data.toList.drop 0 = dktX10_end_0 := by decide +kernel
theorem dksX10_end_1 : cX10_end.data.toList.drop 24 = dktX10_end_1 := dk_seg dksX10_end_0 24 rfl rfl
theorem dksX10_end_2 : cX10_end.data.toList.drop 47 = dktX10_end_2 := dk_seg dksX10_end_1 23 rfl rfl
theorem dX10_end_0 : decode cX10_end 0 = .ok (.aload_n 0, 1) := dk_42 (dk_at dksX10_end_0 0 rfl rfl)
theorem dX10_end_1 : decode cX10_end 1 = .ok (.iconst 0, 1) := dk_3 (dk_at dksX10_end_0 1 rfl rfl)
theorem dX10_end_2 : decode cX10_end 2 = .ok (.putfield 148, 3) := dk_181 0 148 (dk_at dksX10_end_0 2 rfl rfl)
theorem dX10_end_5 : decode cX10_end 5 = .ok (.aload_n 0, 1) := dk_42 (dk_at dksX10_end_0 5 rfl rfl)
theorem dX10_end_6 : decode cX10_end 6 = .ok (.getfield 112, 3) := dk_180 0 112 (dk_at dksX10_end_0 6 rfl rfl)
theorem dX10_end_9 : decode cX10_end 9 = .ok (.iconst 0, 1) := dk_3 (dk_at dksX10_end_0 9 rfl rfl)
theorem dX10_end_10 : decode cX10_end 10 = .ok (.iaload, 1) := dk_46 (dk_at dksX10_end_0 10 rfl rfl)
theorem dX10_end_11 : decode cX10_end 11 = .ok (.sipush 999, 3) := dk_17 3 231 (dk_at dksX10_end_0 11 rfl rfl)
theorem dX10_end_14 : decode cX10_end 14 = .ok (.if_icmp .ne 5, 3) := dk_160 0 5 (dk_at dksX10_end_0 14 rfl rfl)
theorem dX10_end_17 : decode cX10_end 17 = .ok (.iconst (-1), 1) := dk_2 (dk_at dksX10_end_0 17 rfl rfl)
theorem dX10_end_18 : decode cX10_end 18 = .ok (.ireturn, 1) := dk_172 (dk_at dksX10_end_0 18 rfl rfl)
theorem dX10_end_19 : decode cX10_end 19 = .ok (.aload_n 0, 1) := dk_42 (dk_at dksX10_end_0 19 rfl rfl)
theorem dX10_end_20 : decode cX10_end 20 = .ok (.invokevirtual 458, 3) := dk_182 1 202 (dk_at dksX10_end_0 20 rfl rfl)
theorem dX10_end_23 : decode cX10_end 23 = .ok (.aload_n 0, 1) := dk_42 (dk_at dksX10_end_0 23 rfl rfl)
theorem dX10_end_24 : decode cX10_end 24 = .ok (.getfield 112, 3) := dk_180 0 112 (dk_at dksX10_end_1 0 rfl rfl)
theorem dX10_end_27 : decode cX10_end 27 = .ok (.iconst 0, 1) := dk_3 (dk_at dksX10_end_1 3 rfl rfl)
theorem dX10_end_28 : decode cX10_end 28 = .ok (.dup2, 1) := dk_92 (dk_at dksX10_end_1 4 rfl rfl)
theorem dX10_end_29 : decode cX10_end 29 = .ok (.iaload, 1) := dk_46 (dk_at dksX10_end_1 5 rfl rfl)
theorem dX10_end_30 : decode cX10_end 30 = .ok (.iconst 1, 1) := dk_4 (dk_at dksX10_end_1 6 rfl rfl)
theorem dX10_end_31 : decode cX10_end 31 = .ok (.iadd, 1) := dk_96 (dk_at dksX10_end_1 7 rfl rfl)
theorem dX10_end_32 : decode cX10_end 32 = .ok (.iastore, 1) := dk_79 (dk_at dksX10_end_1 8 rfl rfl)
theorem dX10_end_33 : decode cX10_end 33 = .ok (.iconst 0, 1) := dk_3 (dk_at dksX10_end_1 9 rfl rfl)
theorem dX10_end_34 : decode cX10_end 34 = .ok (.istore_n 1, 1) := dk_60 (dk_at dksX10_end_1 10 rfl rfl)
theorem dX10_end_35 : decode cX10_end 35 = .ok (.iload_n 1, 1) := dk_27 (dk_at dksX10_end_1 11 rfl rfl)
theorem dX10_end_36 : decode cX10_end 36 = .ok (.iconst 5, 1) := dk_8 (dk_at dksX10_end_1 12 rfl rfl)
theorem dX10_end_37 : decode cX10_end 37 = .ok (.if_icmp .ge 16, 3) := dk_162 0 16 (dk_at dksX10_end_1 13 rfl rfl)
theorem dX10_end_40 : decode cX10_end 40 = .ok (.aload_n 0, 1) := dk_42 (dk_at dksX10_end_1 16 rfl rfl)
theorem dX10_end_41 : decode cX10_end 41 = .ok (.getfield 109, 3) := dk_180 0 109 (dk_at dksX10_end_1 17 rfl rfl)
theorem dX10_end_44 : decode cX10_end 44 = .ok (.iload_n 1, 1) := dk_27 (dk_at dksX10_end_1 20 rfl rfl)
theorem dX10_end_45 : decode cX10_end 45 = .ok (.iconst 0, 1) := dk_3 (dk_at dksX10_end_1 21 rfl rfl)
theorem dX10_end_46 : decode cX10_end 46 = .ok (.iastore, 1) := dk_79 (dk_at dksX10_end_1 22 rfl rfl)
theorem dX10_end_47 : decode cX10_end 47 = .ok (.iinc 1 1, 3) := dk_132 1 1 (dk_at dksX10_end_2 0 rfl rfl)
theorem dX10_end_50 : decode cX10_end 50 = .ok (.goto (-15), 3) := dk_167 255 241 (dk_at dksX10_end_2 3 rfl rfl)
theorem dX10_end_53 : decode cX10_end 53 = .ok (.aload_n 0, 1) := dk_42 (dk_at dksX10_end_2 6 rfl rfl)
theorem dX10_end_54 : decode cX10_end 54 = .ok (.getfield 112, 3) := dk_180 0 112 (dk_at dksX10_end_2 7 rfl rfl)
theorem dX10_end_57 : decode cX10_end 57 = .ok (.iconst 0, 1) := dk_3 (dk_at dksX10_end_2 10 rfl rfl)
theorem dX10_end_58 : decode cX10_end 58 = .ok (.iaload, 1) := dk_46 (dk_at dksX10_end_2 11 rfl rfl)
theorem dX10_end_59 : decode cX10_end 59 = .ok (.ireturn, 1) := dk_172 (dk_at dksX10_end_2 12 rfl rfl)
def dkwX10_all_1 : List UInt8 := [180, 0, 100, 8, 27, 96, 46, 172]
abbrev dktX10_all_1 : List UInt8 := dkwX10_all_1 ++ []
def dkwX10_all_0 : List UInt8 := [42, 3, 181, 0, 148, 42, 27, 182, 1, 187, 154, 0, 5, 2, 172, 42, 182, 1, 214, 42, 182, 1, 217, 42]
abbrev dktX10_all_0 : List UInt8 := dkwX10_all_0 ++ dktX10_all_1
theorem dksX10_all_0 : cX10_all.data.toList.drop 0 = dktX10_all_0 := by decide +kernel
theorem dksX10_all_1 : cX10_all.data.toList.drop 24 = dktX10_all_1 := dk_seg dksX10_all_0 24 rfl rfl
theorem dX10_all_0 : decode cX10_all 0 = .ok (.aload_n 0, 1) := dk_42 (dk_at dksX10_all_0 0 rfl rfl)
theorem dX10_all_1 : decode cX10_all 1 = .ok (.iconst 0, 1) := dk_3 (dk_at dksX10_all_0 1 rfl rfl)
theorem dX10_all_2 : decode cX10_all 2 = .ok (.putfield 148, 3) := dk_181 0 148 (dk_at dksX10_all_0 2 rfl rfl)
theorem dX10_all_5 : decode cX10_all 5 = .ok (.aload_n 0, 1) := dk_42 (dk_at dksX10_all_0 5 rfl rfl)
theorem dX10_all_6 : decode cX10_all 6 = .ok (.iload_n 1, 1) := dk_27 (dk_at dksX10_all_0 6 rfl rfl)
theorem dX10_all_7 : decode cX10_all 7 = .ok (.invokevirtual 443, 3) := dk_182 1 187 (dk_at dksX10_all_0 7 rfl rfl)
theorem dX10_all_10 : decode cX10_all 10 = .ok (.ifCond .ne 5, 3) := dk_154 0 5 (dk_at dksX10_all_0 10 rfl rfl)
theorem dX10_all_13 : decode cX10_all 13 = .ok (.iconst (-1), 1) := dk_2 (dk_at dksX10_all_0 13 rfl rfl)
theorem dX10_all_14 : decode cX10_all 14 = .ok (.ireturn, 1) := dk_172 (dk_at dksX10_all_0 14 rfl rfl)
theorem dX10_all_15 : decode cX10_all 15 = .ok (.aload_n 0, 1) := dk_42 (dk_at dksX10_all_0 15 rfl rfl)
theorem dX10_all_16 : decode cX10_all 16 = .ok (.invokevirtual 470, 3) := dk_182 1 214 (dk_at dksX10_all_0 16 rfl rfl)
theorem dX10_all_19 : decode cX10_all 19 = .ok (.aload_n 0, 1) := dk_42 (dk_at dksX10_all_0 19 rfl rfl)
theorem dX10_all_20 : decode cX10_all 20 = .ok (.invokevirtual 473, 3) := dk_182 1 217 (dk_at dksX10_all_0 20 rfl rfl)
theorem dX10_all_23 : decode cX10_all 23 = .ok (.aload_n 0, 1) := dk_42 (dk_at dksX10_all_0 23 rfl rfl)
theorem dX10_all_24 : decode cX10_all 24 = .ok (.getfield 100, 3) := dk_180 0 100 (dk_at dksX10_all_1 0 rfl rfl)
theorem dX10_all_27 : decode cX10_all 27 = .ok (.iconst 5, 1) := dk_8 (dk_at dksX10_all_1 3 rfl rfl)
theorem dX10_all_28 : decode cX10_all 28 = .ok (.iload_n 1, 1) := dk_27 (dk_at dksX10_all_1 4 rfl rfl)
theorem dX10_all_29 : decode cX10_all 29 = .ok (.iadd, 1) := dk_96 (dk_at dksX10_all_1 5 rfl rfl)
theorem dX10_all_30 : decode cX10_all 30 = .ok (.iaload, 1) := dk_46 (dk_at dksX10_all_1 6 rfl rfl)
theorem dX10_all_31 : decode cX10_all 31 = .ok (.ireturn, 1) := dk_172 (dk_at dksX10_all_1 7 rfl rfl)
def dkwX10_layTried_3 : List UInt8 := [180, 0, 112, 4, 42, 180, 0, 112, 3, 46, 79, 42, 182, 1, 115, 177]
abbrev dktX10_layTried_3 : List UInt8 := dkwX10_layTried_3 ++ []
def dkwX10_layTried_2 : List UInt8 := [27, 46, 79, 42, 180, 0, 109, 8, 27, 96, 42, 180, 0, 109, 27, 46, 79, 132, 1, 1, 167, 255, 192, 42]
abbrev dktX10_layTried_2 : List UInt8 := dkwX10_layTried_2 ++ dktX10_layTried_3
def dkwX10_layTried_1 : List UInt8 := [180, 0, 103, 8, 27, 96, 42, 180, 0, 103, 27, 46, 79, 42, 180, 0, 106, 8, 27, 96, 42, 180, 0, 106]
abbrev dktX10_layTried_1 : List UInt8 := dkwX10_layTried_1 ++ dktX10_layTried_2
def dkwX10_layTried_0 : List UInt8 := [3, 60, 27, 8, 162, 0, 65, 42, 180, 0, 100, 8, 27, 96, 42, 180, 0, 100, 27, 46, 79, 42]
abbrev dktX10_layTried_0 : List UInt8 := dkwX10_layTried_0 ++ dktX10_layTried_1
theorem dksX10_layTried_0 : cX10_layTried.data.toList.drop 0 = dktX10_layTried_0 := by decide +kernel
theorem dksX10_layTried_1 : cX10_layTried.data.toList.drop 22 = dktX10_layTried_1 := dk_seg dksX10_layTried_0 22 rfl rfl
theorem dksX10_layTried_2 : cX10_layTried.data.toList.drop 46 = dktX10_layTried_2 := dk_seg dksX10_layTried_1 24 rfl rfl
theorem dksX10_layTried_3 : cX10_layTried.data.toList.drop 70 = dktX10_layTried_3 := dk_seg dksX10_layTried_2 24 rfl rfl
theorem dX10_layTried_0 : decode cX10_layTried 0 = .ok (.iconst 0, 1) := dk_3 (dk_at dksX10_layTried_0 0 rfl rfl)
theorem dX10_layTried_1 : decode cX10_layTried 1 = .ok (.istore_n 1, 1) := dk_60 (dk_at dksX10_layTried_0 1 rfl rfl)
theorem dX10_layTried_2 : decode cX10_layTried 2 = .ok (.iload_n 1, 1) := dk_27 (dk_at dksX10_layTried_0 2 rfl rfl)
theorem dX10_layTried_3 : decode cX10_layTried 3 = .ok (.iconst 5, 1) := dk_8 (dk_at dksX10_layTried_0 3 rfl rfl)
theorem dX10_layTried_4 : decode cX10_layTried 4 = .ok (.if_icmp .ge 65, 3) := dk_162 0 65 (dk_at dksX10_layTried_0 4 rfl rfl)
theorem dX10_layTried_7 : decode cX10_layTried 7 = .ok (.aload_n 0, 1) := dk_42 (dk_at dksX10_layTried_0 7 rfl rfl)
theorem dX10_layTried_8 : decode cX10_layTried 8 = .ok (.getfield 100, 3) := dk_180 0 100 (dk_at dksX10_layTried_0 8 rfl rfl)
theorem dX10_layTried_11 : decode cX10_layTried 11 = .ok (.iconst 5, 1) := dk_8 (dk_at dksX10_layTried_0 11 rfl rfl)
theorem dX10_layTried_12 : decode cX10_layTried 12 = .ok (.iload_n 1, 1) := dk_27 (dk_at dksX10_layTried_0 12 rfl rfl)
theorem dX10_layTried_13 : decode cX10_layTried 13 = .ok (.iadd, 1) := dk_96 (dk_at dksX10_layTried_0 13 rfl rfl)
theorem dX10_layTried_14 : decode cX10_layTried 14 = .ok (.aload_n 0, 1) := dk_42 (dk_at dksX10_layTried_0 14 rfl rfl)
theorem dX10_layTried_15 : decode cX10_layTried 15 = .ok (.getfield 100, 3) := dk_180 0 100 (dk_at dksX10_layTried_0 15 rfl rfl)
theorem dX10_layTried_18 : decode cX10_layTried 18 = .ok (.iload_n 1, 1) := dk_27 (dk_at dksX10_layTried_0 18 rfl rfl)
theorem dX10_layTried_19 : decode cX10_layTried 19 = .ok (.iaload, 1) := dk_46 (dk_at dksX10_layTried_0 19 rfl rfl)
theorem dX10_layTried_20 : decode cX10_layTried 20 = .ok (.iastore, 1) := dk_79 (dk_at dksX10_layTried_0 20 rfl rfl)
theorem dX10_layTried_21 : decode cX10_layTried 21 = .ok (.aload_n 0, 1) := dk_42 (dk_at dksX10_layTried_0 21 rfl rfl)
theorem dX10_layTried_22 : decode cX10_layTried 22 = .ok (.getfield 103, 3) := dk_180 0 103 (dk_at dksX10_layTried_1 0 rfl rfl)
theorem dX10_layTried_25 : decode cX10_layTried 25 = .ok (.iconst 5, 1) := dk_8 (dk_at dksX10_layTried_1 3 rfl rfl)
theorem dX10_layTried_26 : decode cX10_layTried 26 = .ok (.iload_n 1, 1) := dk_27 (dk_at dksX10_layTried_1 4 rfl rfl)
theorem dX10_layTried_27 : decode cX10_layTried 27 = .ok (.iadd, 1) := dk_96 (dk_at dksX10_layTried_1 5 rfl rfl)
theorem dX10_layTried_28 : decode cX10_layTried 28 = .ok (.aload_n 0, 1) := dk_42 (dk_at dksX10_layTried_1 6 rfl rfl)
theorem dX10_layTried_29 : decode cX10_layTried 29 = .ok (.getfield 103, 3) := dk_180 0 103 (dk_at dksX10_layTried_1 7 rfl rfl)
theorem dX10_layTried_32 : decode cX10_layTried 32 = .ok (.iload_n 1, 1) := dk_27 (dk_at dksX10_layTried_1 10 rfl rfl)
theorem dX10_layTried_33 : decode cX10_layTried 33 = .ok (.iaload, 1) := dk_46 (dk_at dksX10_layTried_1 11 rfl rfl)
theorem dX10_layTried_34 : decode cX10_layTried 34 = .ok (.iastore, 1) := dk_79 (dk_at dksX10_layTried_1 12 rfl rfl)
theorem dX10_layTried_35 : decode cX10_layTried 35 = .ok (.aload_n 0, 1) := dk_42 (dk_at dksX10_layTried_1 13 rfl rfl)
theorem dX10_layTried_36 : decode cX10_layTried 36 = .ok (.getfield 106, 3) := dk_180 0 106 (dk_at dksX10_layTried_1 14 rfl rfl)
theorem dX10_layTried_39 : decode cX10_layTried 39 = .ok (.iconst 5, 1) := dk_8 (dk_at dksX10_layTried_1 17 rfl rfl)
theorem dX10_layTried_40 : decode cX10_layTried 40 = .ok (.iload_n 1, 1) := dk_27 (dk_at dksX10_layTried_1 18 rfl rfl)
theorem dX10_layTried_41 : decode cX10_layTried 41 = .ok (.iadd, 1) := dk_96 (dk_at dksX10_layTried_1 19 rfl rfl)
theorem dX10_layTried_42 : decode cX10_layTried 42 = .ok (.aload_n 0, 1) := dk_42 (dk_at dksX10_layTried_1 20 rfl rfl)
theorem dX10_layTried_43 : decode cX10_layTried 43 = .ok (.getfield 106, 3) := dk_180 0 106 (dk_at dksX10_layTried_1 21 rfl rfl)
theorem dX10_layTried_46 : decode cX10_layTried 46 = .ok (.iload_n 1, 1) := dk_27 (dk_at dksX10_layTried_2 0 rfl rfl)
theorem dX10_layTried_47 : decode cX10_layTried 47 = .ok (.iaload, 1) := dk_46 (dk_at dksX10_layTried_2 1 rfl rfl)
theorem dX10_layTried_48 : decode cX10_layTried 48 = .ok (.iastore, 1) := dk_79 (dk_at dksX10_layTried_2 2 rfl rfl)
theorem dX10_layTried_49 : decode cX10_layTried 49 = .ok (.aload_n 0, 1) := dk_42 (dk_at dksX10_layTried_2 3 rfl rfl)
theorem dX10_layTried_50 : decode cX10_layTried 50 = .ok (.getfield 109, 3) := dk_180 0 109 (dk_at dksX10_layTried_2 4 rfl rfl)
theorem dX10_layTried_53 : decode cX10_layTried 53 = .ok (.iconst 5, 1) := dk_8 (dk_at dksX10_layTried_2 7 rfl rfl)
theorem dX10_layTried_54 : decode cX10_layTried 54 = .ok (.iload_n 1, 1) := dk_27 (dk_at dksX10_layTried_2 8 rfl rfl)
theorem dX10_layTried_55 : decode cX10_layTried 55 = .ok (.iadd, 1) := dk_96 (dk_at dksX10_layTried_2 9 rfl rfl)
theorem dX10_layTried_56 : decode cX10_layTried 56 = .ok (.aload_n 0, 1) := dk_42 (dk_at dksX10_layTried_2 10 rfl rfl)
theorem dX10_layTried_57 : decode cX10_layTried 57 = .ok (.getfield 109, 3) := dk_180 0 109 (dk_at dksX10_layTried_2 11 rfl rfl)
theorem dX10_layTried_60 : decode cX10_layTried 60 = .ok (.iload_n 1, 1) := dk_27 (dk_at dksX10_layTried_2 14 rfl rfl)
theorem dX10_layTried_61 : decode cX10_layTried 61 = .ok (.iaload, 1) := dk_46 (dk_at dksX10_layTried_2 15 rfl rfl)
theorem dX10_layTried_62 : decode cX10_layTried 62 = .ok (.iastore, 1) := dk_79 (dk_at dksX10_layTried_2 16 rfl rfl)
theorem dX10_layTried_63 : decode cX10_layTried 63 = .ok (.iinc 1 1, 3) := dk_132 1 1 (dk_at dksX10_layTried_2 17 rfl rfl)
theorem dX10_layTried_66 : decode cX10_layTried 66 = .ok (.goto (-64), 3) := dk_167 255 192 (dk_at dksX10_layTried_2 20 rfl rfl)
theorem dX10_layTried_69 : decode cX10_layTried 69 = .ok (.aload_n 0, 1) := dk_42 (dk_at dksX10_layTried_2 23 rfl rfl)
theorem dX10_layTried_70 : decode cX10_layTried 70 = .ok (.getfield 112, 3) := dk_180 0 112 (dk_at dksX10_layTried_3 0 rfl rfl)
theorem dX10_layTried_73 : decode cX10_layTried 73 = .ok (.iconst 1, 1) := dk_4 (dk_at dksX10_layTried_3 3 rfl rfl)
theorem dX10_layTried_74 : decode cX10_layTried 74 = .ok (.aload_n 0, 1) := dk_42 (dk_at dksX10_layTried_3 4 rfl rfl)
theorem dX10_layTried_75 : decode cX10_layTried 75 = .ok (.getfield 112, 3) := dk_180 0 112 (dk_at dksX10_layTried_3 5 rfl rfl)
theorem dX10_layTried_78 : decode cX10_layTried 78 = .ok (.iconst 0, 1) := dk_3 (dk_at dksX10_layTried_3 8 rfl rfl)
theorem dX10_layTried_79 : decode cX10_layTried 79 = .ok (.iaload, 1) := dk_46 (dk_at dksX10_layTried_3 9 rfl rfl)
theorem dX10_layTried_80 : decode cX10_layTried 80 = .ok (.iastore, 1) := dk_79 (dk_at dksX10_layTried_3 10 rfl rfl)
theorem dX10_layTried_81 : decode cX10_layTried 81 = .ok (.aload_n 0, 1) := dk_42 (dk_at dksX10_layTried_3 11 rfl rfl)
theorem dX10_layTried_82 : decode cX10_layTried 82 = .ok (.invokevirtual 371, 3) := dk_182 1 115 (dk_at dksX10_layTried_3 12 rfl rfl)
theorem dX10_layTried_85 : decode cX10_layTried 85 = .ok (.return_, 1) := dk_177 (dk_at dksX10_layTried_3 15 rfl rfl)
