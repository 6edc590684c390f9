set_option maxRecDepth 100000
def dkwX10_askAll_5 : List UInt8 := [167, 255, 146, 177]
abbrev dktX10_askAll_5 : List UInt8 := dkwX10_askAll_5 ++ []
def dkwX10_askAll_4 : List UInt8 := [167, 255, 193, 132, 3, 1, 167, 255, 176, 42, 4, 182, 1, 211, 28, 164, 0, 7, 4, 167, 0, 4, 3, 60]
abbrev dktX10_askAll_4 : List UInt8 := dkwX10_askAll_4 ++ dktX10_askAll_5
def dkwX10_askAll_3 : List UInt8 := [182, 1, 205, 153, 0, 7, 4, 167, 0, 4, 3, 54, 6, 132, 5, 1, 167, 255, 211, 132, 4, 1]
abbrev dktX10_askAll_3 : List UInt8 := dkwX10_askAll_3 ++ dktX10_askAll_4
def dkwX10_askAll_2 : List UInt8 := [162, 0, 42, 42, 4, 29, 21, 4, 21, 5, 182, 1, 196, 153, 0, 20, 42, 4, 29, 21, 4, 21, 5]
abbrev dktX10_askAll_2 : List UInt8 := dkwX10_askAll_2 ++ dktX10_askAll_3
def dkwX10_askAll_1 : List UInt8 := [162, 0, 78, 3, 54, 4, 21, 4, 42, 180, 0, 231, 162, 0, 60, 3, 54, 5, 21, 5, 42, 180, 0, 234]
abbrev dktX10_askAll_1 : List UInt8 := dkwX10_askAll_1 ++ dktX10_askAll_2
def dkwX10_askAll_0 : List UInt8 := [42, 4, 181, 1, 130, 4, 60, 27, 153, 0, 112, 42, 4, 182, 1, 211, 61, 3, 62, 29, 42, 180, 0, 231]
abbrev dktX10_askAll_0 : List UInt8 := dkwX10_askAll_0 ++ dktX10_askAll_1
theorem dksX10_askAll_0 : cX10_askAll.data.toList.drop 0 = dktX10_askAll_0 := by decide +kernel
theorem dksX10_askAll_1 : cX10_askAll.data.toList.drop 24 = dktX10_askAll_1 := dk_seg dksX10_askAll_0 24 rfl rfl
theorem dksX10_askAll_2 : cX10_askAll.data.toList.drop 48 = dktX10_askAll_2 := dk_seg dksX10_askAll_1 24 rfl rfl
theorem dksX10_askAll_3 : cX10_askAll.data.toList.drop 71 = dktX10_askAll_3 := dk_seg dksX10_askAll_2 23 rfl rfl
theorem dksX10_askAll_4 : cX10_askAll.data.toList.drop 93 = dktX10_askAll_4 := dk_seg dksX10_askAll_3 22 rfl rfl
theorem dksX10_askAll_5 : cX10_askAll.data.toList.drop 117 = dktX10_askAll_5 := dk_seg dksX10_askAll_4 24 rfl rfl
theorem dX10_askAll_0 : decode cX10_askAll 0 = .ok (.aload_n 0, 1) := dk_42 (dk_at dksX10_askAll_0 0 rfl rfl)
theorem dX10_askAll_1 : decode cX10_askAll 1 = .ok (.iconst 1, 1) := dk_4 (dk_at dksX10_askAll_0 1 rfl rfl)
theorem dX10_askAll_2 : decode cX10_askAll 2 = .ok (.putfield 386, 3) := dk_181 1 130 (dk_at dksX10_askAll_0 2 rfl rfl)
theorem dX10_askAll_5 : decode cX10_askAll 5 = .ok (.iconst 1, 1) := dk_4 (dk_at dksX10_askAll_0 5 rfl rfl)
theorem dX10_askAll_6 : decode cX10_askAll 6 = .ok (.istore_n 1, 1) := dk_60 (dk_at dksX10_askAll_0 6 rfl rfl)
theorem dX10_askAll_7 : decode cX10_askAll 7 = .ok (.iload_n 1, 1) := dk_27 (dk_at dksX10_askAll_0 7 rfl rfl)
theorem dX10_askAll_8 : decode cX10_askAll 8 = .ok (.ifCond .eq 112, 3) := dk_153 0 112 (dk_at dksX10_askAll_0 8 rfl rfl)
theorem dX10_askAll_11 : decode cX10_askAll 11 = .ok (.aload_n 0, 1) := dk_42 (dk_at dksX10_askAll_0 11 rfl rfl)
theorem dX10_askAll_12 : decode cX10_askAll 12 = .ok (.iconst 1, 1) := dk_4 (dk_at dksX10_askAll_0 12 rfl rfl)
theorem dX10_askAll_13 : decode cX10_askAll 13 = .ok (.invokevirtual 467, 3) := dk_182 1 211 (dk_at dksX10_askAll_0 13 rfl rfl)
theorem dX10_askAll_16 : decode cX10_askAll 16 = .ok (.istore_n 2, 1) := dk_61 (dk_at dksX10_askAll_0 16 rfl rfl)
theorem dX10_askAll_17 : decode cX10_askAll 17 = .ok (.iconst 0, 1) := dk_3 (dk_at dksX10_askAll_0 17 rfl rfl)
theorem dX10_askAll_18 : decode cX10_askAll 18 = .ok (.istore_n 3, 1) := dk_62 (dk_at dksX10_askAll_0 18 rfl rfl)
theorem dX10_askAll_19 : decode cX10_askAll 19 = .ok (.iload_n 3, 1) := dk_29 (dk_at dksX10_askAll_0 19 rfl rfl)
theorem dX10_askAll_20 : decode cX10_askAll 20 = .ok (.aload_n 0, 1) := dk_42 (dk_at dksX10_askAll_0 20 rfl rfl)
theorem dX10_askAll_21 : decode cX10_askAll 21 = .ok (.getfield 231, 3) := dk_180 0 231 (dk_at dksX10_askAll_0 21 rfl rfl)
theorem dX10_askAll_24 : decode cX10_askAll 24 = .ok (.if_icmp .ge 78, 3) := dk_162 0 78 (dk_at dksX10_askAll_1 0 rfl rfl)
theorem dX10_askAll_27 : decode cX10_askAll 27 = .ok (.iconst 0, 1) := dk_3 (dk_at dksX10_askAll_1 3 rfl rfl)
theorem dX10_askAll_28 : decode cX10_askAll 28 = .ok (.istore 4, 2) := dk_54 4 (dk_at dksX10_askAll_1 4 rfl rfl)
theorem dX10_askAll_30 : decode cX10_askAll 30 = .ok (.iload 4, 2) := dk_21 4 (dk_at dksX10_askAll_1 6 rfl rfl)
theorem dX10_askAll_32 : decode cX10_askAll 32 = .ok (.aload_n 0, 1) := dk_42 (dk_at dksX10_askAll_1 8 rfl rfl)
theorem dX10_askAll_33 : decode cX10_askAll 33 = .ok (.getfield 231, 3) := dk_180 0 231 (dk_at dksX10_askAll_1 9 rfl rfl)
theorem dX10_askAll_36 : decode cX10_askAll 36 = .ok (.if_icmp .ge 60, 3) := dk_162 0 60 (dk_at dksX10_askAll_1 12 rfl rfl)
theorem dX10_askAll_39 : decode cX10_askAll 39 = .ok (.iconst 0, 1) := dk_3 (dk_at dksX10_askAll_1 15 rfl rfl)
theorem dX10_askAll_40 : decode cX10_askAll 40 = .ok (.istore 5, 2) := dk_54 5 (dk_at dksX10_askAll_1 16 rfl rfl)
theorem dX10_askAll_42 : decode cX10_askAll 42 = .ok (.iload 5, 2) := dk_21 5 (dk_at dksX10_askAll_1 18 rfl rfl)
theorem dX10_askAll_44 : decode cX10_askAll 44 = .ok (.aload_n 0, 1) := dk_42 (dk_at dksX10_askAll_1 20 rfl rfl)
theorem dX10_askAll_45 : decode cX10_askAll 45 = .ok (.getfield 234, 3) := dk_180 0 234 (dk_at dksX10_askAll_1 21 rfl rfl)
theorem dX10_askAll_48 : decode cX10_askAll 48 = .ok (.if_icmp .ge 42, 3) := dk_162 0 42 (dk_at dksX10_askAll_2 0 rfl rfl)
theorem dX10_askAll_51 : decode cX10_askAll 51 = .ok (.aload_n 0, 1) := dk_42 (dk_at dksX10_askAll_2 3 rfl rfl)
theorem dX10_askAll_52 : decode cX10_askAll 52 = .ok (.iconst 1, 1) := dk_4 (dk_at dksX10_askAll_2 4 rfl rfl)
theorem dX10_askAll_53 : decode cX10_askAll 53 = .ok (.iload_n 3, 1) := dk_29 (dk_at dksX10_askAll_2 5 rfl rfl)
theorem dX10_askAll_54 : decode cX10_askAll 54 = .ok (.iload 4, 2) := dk_21 4 (dk_at dksX10_askAll_2 6 rfl rfl)
theorem dX10_askAll_56 : decode cX10_askAll 56 = .ok (.iload 5, 2) := dk_21 5 (dk_at dksX10_askAll_2 8 rfl rfl)
theorem dX10_askAll_58 : decode cX10_askAll 58 = .ok (.invokevirtual 452, 3) := dk_182 1 196 (dk_at dksX10_askAll_2 10 rfl rfl)
theorem dX10_askAll_61 : decode cX10_askAll 61 = .ok (.ifCond .eq 20, 3) := dk_153 0 20 (dk_at dksX10_askAll_2 13 rfl rfl)
theorem dX10_askAll_64 : decode cX10_askAll 64 = .ok (.aload_n 0, 1) := dk_42 (dk_at dksX10_askAll_2 16 rfl rfl)
theorem dX10_askAll_65 : decode cX10_askAll 65 = .ok (.iconst 1, 1) := dk_4 (dk_at dksX10_askAll_2 17 rfl rfl)
theorem dX10_askAll_66 : decode cX10_askAll 66 = .ok (.iload_n 3, 1) := dk_29 (dk_at dksX10_askAll_2 18 rfl rfl)
theorem dX10_askAll_67 : decode cX10_askAll 67 = .ok (.iload 4, 2) := dk_21 4 (dk_at dksX10_askAll_2 19 rfl rfl)
theorem dX10_askAll_69 : decode cX10_askAll 69 = .ok (.iload 5, 2) := dk_21 5 (dk_at dksX10_askAll_2 21 rfl rfl)
theorem dX10_askAll_71 : decode cX10_askAll 71 = .ok (.invokevirtual 461, 3) := dk_182 1 205 (dk_at dksX10_askAll_3 0 rfl rfl)
theorem dX10_askAll_74 : decode cX10_askAll 74 = .ok (.ifCond .eq 7, 3) := dk_153 0 7 (dk_at dksX10_askAll_3 3 rfl rfl)
theorem dX10_askAll_77 : decode cX10_askAll 77 = .ok (.iconst 1, 1) := dk_4 (dk_at dksX10_askAll_3 6 rfl rfl)
theorem dX10_askAll_78 : decode cX10_askAll 78 = .ok (.goto 4, 3) := dk_167 0 4 (dk_at dksX10_askAll_3 7 rfl rfl)
theorem dX10_askAll_81 : decode cX10_askAll 81 = .ok (.iconst 0, 1) := dk_3 (dk_at dksX10_askAll_3 10 rfl rfl)
theorem dX10_askAll_82 : decode cX10_askAll 82 = .ok (.istore 6, 2) := dk_54 6 (dk_at dksX10_askAll_3 11 rfl rfl)
theorem dX10_askAll_84 : decode cX10_askAll 84 = .ok (.iinc 5 1, 3) := dk_132 5 1 (dk_at dksX10_askAll_3 13 rfl rfl)
theorem dX10_askAll_87 : decode cX10_askAll 87 = .ok (.goto (-45), 3) := dk_167 255 211 (dk_at dksX10_askAll_3 16 rfl rfl)
theorem dX10_askAll_90 : decode cX10_askAll 90 = .ok (.iinc 4 1, 3) := dk_132 4 1 (dk_at dksX10_askAll_3 19 rfl rfl)
theorem dX10_askAll_93 : decode cX10_askAll 93 = .ok (.goto (-63), 3) := dk_167 255 193 (dk_at dksX10_askAll_4 0 rfl rfl)
theorem dX10_askAll_96 : decode cX10_askAll 96 = .ok (.iinc 3 1, 3) := dk_132 3 1 (dk_at dksX10_askAll_4 3 rfl rfl)
theorem dX10_askAll_99 : decode cX10_askAll 99 = .ok (.goto (-80), 3) := dk_167 255 176 (dk_at dksX10_askAll_4 6 rfl rfl)
theorem dX10_askAll_102 : decode cX10_askAll 102 = .ok (.aload_n 0, 1) := dk_42 (dk_at dksX10_askAll_4 9 rfl rfl)
theorem dX10_askAll_103 : decode cX10_askAll 103 = .ok (.iconst 1, 1) := dk_4 (dk_at dksX10_askAll_4 10 rfl rfl)
theorem dX10_askAll_104 : decode cX10_askAll 104 = .ok (.invokevirtual 467, 3) := dk_182 1 211 (dk_at dksX10_askAll_4 11 rfl rfl)
theorem dX10_askAll_107 : decode cX10_askAll 107 = .ok (.iload_n 2, 1) := dk_28 (dk_at dksX10_askAll_4 14 rfl rfl)
theorem dX10_askAll_108 : decode cX10_askAll 108 = .ok (.if_icmp .le 7, 3) := dk_164 0 7 (dk_at dksX10_askAll_4 15 rfl rfl)
theorem dX10_askAll_111 : decode cX10_askAll 111 = .ok (.iconst 1, 1) := dk_4 (dk_at dksX10_askAll_4 18 rfl rfl)
theorem dX10_askAll_112 : decode cX10_askAll 112 = .ok (.goto 4, 3) := dk_167 0 4 (dk_at dksX10_askAll_4 19 rfl rfl)
theorem dX10_askAll_115 : decode cX10_askAll 115 = .ok (.iconst 0, 1) := dk_3 (dk_at dksX10_askAll_4 22 rfl rfl)
theorem dX10_askAll_116 : decode cX10_askAll 116 = .ok (.istore_n 1, 1) := dk_60 (dk_at dksX10_askAll_4 23 rfl rfl)
theorem dX10_askAll_117 : decode cX10_askAll 117 = .ok (.goto (-110), 3) := dk_167 255 146 (dk_at dksX10_askAll_5 0 rfl rfl)
theorem dX10_askAll_120 : decode cX10_askAll 120 = .ok (.return_, 1) := dk_177 (dk_at dksX10_askAll_5 3 rfl rfl)
def dkwX10_sumIn_2 : List UInt8 := [167, 255, 214, 28, 172]
abbrev dktX10_sumIn_2 : List UInt8 := dkwX10_sumIn_2 ++ []
def dkwX10_sumIn_1 : List UInt8 := [3, 167, 0, 16, 42, 180, 0, 100, 8, 27, 104, 29, 96, 46, 184, 1, 151, 96, 61, 132, 3, 1]
abbrev dktX10_sumIn_1 : List UInt8 := dkwX10_sumIn_1 ++ dktX10_sumIn_2
def dkwX10_sumIn_0 : List UInt8 := [3, 61, 3, 62, 29, 42, 180, 0, 231, 162, 0, 40, 28, 42, 180, 1, 139, 29, 184, 1, 8, 153, 0, 7]
abbrev dktX10_sumIn_0 : List UInt8 := dkwX10_sumIn_0 ++ dktX10_sumIn_1
theorem dksX10_sumIn_0 : cX10_sumIn.data.toList.drop 0 = dktX10_sumIn_0 := by decide +kernel
theorem dksX10_sumIn_1 : cX10_sumIn.data.toList.drop 24 = dktX10_sumIn_1 := dk_seg dksX10_sumIn_0 24 rfl rfl
theorem dksX10_sumIn_2 : cX10_sumIn.data.toList.drop 46 = dktX10_sumIn_2 := dk_seg dksX10_sumIn_1 22 rfl rfl
theorem dX10_sumIn_0 : decode cX10_sumIn 0 = .ok (.iconst 0, 1) := dk_3 (dk_at dksX10_sumIn_0 0 rfl rfl)
theorem dX10_sumIn_1 : decode cX10_sumIn 1 = .ok (.istore_n 2, 1) := dk_61 (dk_at dksX10_sumIn_0 1 rfl rfl)
theorem dX10_sumIn_2 : decode cX10_sumIn 2 = .ok (.iconst 0, 1) := dk_3 (dk_at dksX10_sumIn_0 2 rfl rfl)
theorem dX10_sumIn_3 : decode cX10_sumIn 3 = .ok (.istore_n 3, 1) := dk_62 (dk_at dksX10_sumIn_0 3 rfl rfl)
theorem dX10_sumIn_4 : decode cX10_sumIn 4 = .ok (.iload_n 3, 1) := dk_29 (dk_at dksX10_sumIn_0 4 rfl rfl)
theorem dX10_sumIn_5 : decode cX10_sumIn 5 = .ok (.aload_n 0, 1) := dk_42 (dk_at dksX10_sumIn_0 5 rfl rfl)
theorem dX10_sumIn_6 : decode cX10_sumIn 6 = .ok (.getfield 231, 3) := dk_180 0 231 (dk_at dksX10_sumIn_0 6 rfl rfl)
theorem dX10_sumIn_9 : decode cX10_sumIn 9 = .ok (.if_icmp .ge 40, 3) := dk_162 0 40 (dk_at dksX10_sumIn_0 9 rfl rfl)
theorem dX10_sumIn_12 : decode cX10_sumIn 12 = .ok (.iload_n 2, 1) := dk_28 (dk_at dksX10_sumIn_0 12 rfl rfl)
theorem dX10_sumIn_13 : decode cX10_sumIn 13 = .ok (.aload_n 0, 1) := dk_42 (dk_at dksX10_sumIn_0 13 rfl rfl)
theorem dX10_sumIn_14 : decode cX10_sumIn 14 = .ok (.getfield 395, 3) := dk_180 1 139 (dk_at dksX10_sumIn_0 14 rfl rfl)
theorem dX10_sumIn_17 : decode cX10_sumIn 17 = .ok (.iload_n 3, 1) := dk_29 (dk_at dksX10_sumIn_0 17 rfl rfl)
theorem dX10_sumIn_18 : decode cX10_sumIn 18 = .ok (.invokestatic 264, 3) := dk_184 1 8 (dk_at dksX10_sumIn_0 18 rfl rfl)
theorem dX10_sumIn_21 : decode cX10_sumIn 21 = .ok (.ifCond .eq 7, 3) := dk_153 0 7 (dk_at dksX10_sumIn_0 21 rfl rfl)
theorem dX10_sumIn_24 : decode cX10_sumIn 24 = .ok (.iconst 0, 1) := dk_3 (dk_at dksX10_sumIn_1 0 rfl rfl)
theorem dX10_sumIn_25 : decode cX10_sumIn 25 = .ok (.goto 16, 3) := dk_167 0 16 (dk_at dksX10_sumIn_1 1 rfl rfl)
theorem dX10_sumIn_28 : decode cX10_sumIn 28 = .ok (.aload_n 0, 1) := dk_42 (dk_at dksX10_sumIn_1 4 rfl rfl)
theorem dX10_sumIn_29 : decode cX10_sumIn 29 = .ok (.getfield 100, 3) := dk_180 0 100 (dk_at dksX10_sumIn_1 5 rfl rfl)
theorem dX10_sumIn_32 : decode cX10_sumIn 32 = .ok (.iconst 5, 1) := dk_8 (dk_at dksX10_sumIn_1 8 rfl rfl)
theorem dX10_sumIn_33 : decode cX10_sumIn 33 = .ok (.iload_n 1, 1) := dk_27 (dk_at dksX10_sumIn_1 9 rfl rfl)
theorem dX10_sumIn_34 : decode cX10_sumIn 34 = .ok (.imul, 1) := dk_104 (dk_at dksX10_sumIn_1 10 rfl rfl)
theorem dX10_sumIn_35 : decode cX10_sumIn 35 = .ok (.iload_n 3, 1) := dk_29 (dk_at dksX10_sumIn_1 11 rfl rfl)
theorem dX10_sumIn_36 : decode cX10_sumIn 36 = .ok (.iadd, 1) := dk_96 (dk_at dksX10_sumIn_1 12 rfl rfl)
theorem dX10_sumIn_37 : decode cX10_sumIn 37 = .ok (.iaload, 1) := dk_46 (dk_at dksX10_sumIn_1 13 rfl rfl)
theorem dX10_sumIn_38 : decode cX10_sumIn 38 = .ok (.invokestatic 407, 3) := dk_184 1 151 (dk_at dksX10_sumIn_1 14 rfl rfl)
theorem dX10_sumIn_41 : decode cX10_sumIn 41 = .ok (.iadd, 1) := dk_96 (dk_at dksX10_sumIn_1 17 rfl rfl)
theorem dX10_sumIn_42 : decode cX10_sumIn 42 = .ok (.istore_n 2, 1) := dk_61 (dk_at dksX10_sumIn_1 18 rfl rfl)
theorem dX10_sumIn_43 : decode cX10_sumIn 43 = .ok (.iinc 3 1, 3) := dk_132 3 1 (dk_at dksX10_sumIn_1 19 rfl rfl)
theorem dX10_sumIn_46 : decode cX10_sumIn 46 = .ok (.goto (-42), 3) := dk_167 255 214 (dk_at dksX10_sumIn_2 0 rfl rfl)
theorem dX10_sumIn_49 : decode cX10_sumIn 49 = .ok (.iload_n 2, 1) := dk_28 (dk_at dksX10_sumIn_2 3 rfl rfl)
theorem dX10_sumIn_50 : decode cX10_sumIn 50 = .ok (.ireturn, 1) := dk_172 (dk_at dksX10_sumIn_2 4 rfl rfl)
def dkwX10_never_1 : List UInt8 := [167, 0, 18, 42, 27, 28, 3, 182, 1, 220, 153, 0, 7, 3, 167, 0, 4, 4, 172]
abbrev dktX10_never_1 : List UInt8 := dkwX10_never_1 ++ []
def dkwX10_never_0 : List UInt8 := [42, 3, 181, 0, 148, 42, 27, 182, 1, 187, 153, 0, 11, 42, 28, 182, 1, 208, 154, 0, 7, 2]
abbrev dktX10_never_0 : List UInt8 := dkwX10_never_0 ++ dktX10_never_1
theorem dksX10_never_0 : cX10_never.data.toList.drop 0 = dktX10_never_0 := by decide +kernel
theorem dksX10_never_1 : cX10_never.data.toList.drop 22 = dktX10_never_1 := dk_seg dksX10_never_0 22 rfl rfl
theorem dX10_never_0 : decode cX10_never 0 = .ok (.aload_n 0, 1) := dk_42 (dk_at dksX10_never_0 0 rfl rfl)
theorem dX10_never_1 : decode cX10_never 1 = .ok (.iconst 0, 1) := dk_3 (dk_at dksX10_never_0 1 rfl rfl)
theorem dX10_never_2 : decode cX10_never 2 = .ok (.putfield 148, 3) := dk_181 0 148 (dk_at dksX10_never_0 2 rfl rfl)
theorem dX10_never_5 : decode cX10_never 5 = .ok (.aload_n 0, 1) := dk_42 (dk_at dksX10_never_0 5 rfl rfl)
theorem dX10_never_6 : decode cX10_never 6 = .ok (.iload_n 1, 1) := dk_27 (dk_at dksX10_never_0 6 rfl rfl)
theorem dX10_never_7 : decode cX10_never 7 = .ok (.invokevirtual 443, 3) := dk_182 1 187 (dk_at dksX10_never_0 7 rfl rfl)
theorem dX10_never_10 : decode cX10_never 10 = .ok (.ifCond .eq 11, 3) := dk_153 0 11 (dk_at dksX10_never_0 10 rfl rfl)
theorem dX10_never_13 : decode cX10_never 13 = .ok (.aload_n 0, 1) := dk_42 (dk_at dksX10_never_0 13 rfl rfl)
theorem dX10_never_14 : decode cX10_never 14 = .ok (.iload_n 2, 1) := dk_28 (dk_at dksX10_never_0 14 rfl rfl)
theorem dX10_never_15 : decode cX10_never 15 = .ok (.invokevirtual 464, 3) := dk_182 1 208 (dk_at dksX10_never_0 15 rfl rfl)
theorem dX10_never_18 : decode cX10_never 18 = .ok (.ifCond .ne 7, 3) := dk_154 0 7 (dk_at dksX10_never_0 18 rfl rfl)
theorem dX10_never_21 : decode cX10_never 21 = .ok (.iconst (-1), 1) := dk_2 (dk_at dksX10_never_0 21 rfl rfl)
theorem dX10_never_22 : decode cX10_never 22 = .ok (.goto 18, 3) := dk_167 0 18 (dk_at dksX10_never_1 0 rfl rfl)
theorem dX10_never_25 : decode cX10_never 25 = .ok (.aload_n 0, 1) := dk_42 (dk_at dksX10_never_1 3 rfl rfl)
theorem dX10_never_26 : decode cX10_never 26 = .ok (.iload_n 1, 1) := dk_27 (dk_at dksX10_never_1 4 rfl rfl)
theorem dX10_never_27 : decode cX10_never 27 = .ok (.iload_n 2, 1) := dk_28 (dk_at dksX10_never_1 5 rfl rfl)
theorem dX10_never_28 : decode cX10_never 28 = .ok (.iconst 0, 1) := dk_3 (dk_at dksX10_never_1 6 rfl rfl)
theorem dX10_never_29 : decode cX10_never 29 = .ok (.invokevirtual 476, 3) := dk_182 1 220 (dk_at dksX10_never_1 7 rfl rfl)
theorem dX10_never_32 : decode cX10_never 32 = .ok (.ifCond .eq 7, 3) := dk_153 0 7 (dk_at dksX10_never_1 10 rfl rfl)
theorem dX10_never_35 : decode cX10_never 35 = .ok (.iconst 0, 1) := dk_3 (dk_at dksX10_never_1 13 rfl rfl)
theorem dX10_never_36 : decode cX10_never 36 = .ok (.goto 4, 3) := dk_167 0 4 (dk_at dksX10_never_1 14 rfl rfl)
theorem dX10_never_39 : decode cX10_never 39 = .ok (.iconst 1, 1) := dk_4 (dk_at dksX10_never_1 17 rfl rfl)
theorem dX10_never_40 : decode cX10_never 40 = .ok (.ireturn, 1) := dk_172 (dk_at dksX10_never_1 18 rfl rfl)
def dkwX10_learns_1 : List UInt8 := [184, 1, 8, 54, 4, 42, 182, 1, 115, 21, 4, 172]
abbrev dktX10_learns_1 : List UInt8 := dkwX10_learns_1 ++ []
def dkwX10_learns_0 : List UInt8 := [42, 182, 1, 214, 42, 29, 181, 1, 139, 42, 182, 1, 217, 42, 180, 0, 100, 8, 27, 96, 46, 28]
abbrev dktX10_learns_0 : List UInt8 := dkwX10_learns_0 ++ dktX10_learns_1
theorem dksX10_learns_0 : cX10_learns.data.toList.drop 0 = dktX10_learns_0 := by decide +kernel
theorem dksX10_learns_1 : cX10_learns.data.toList.drop 22 = dktX10_learns_1 := dk_seg dksX10_learns_0 22 rfl rfl
theorem dX10_learns_0 : decode cX10_learns 0 = .ok (.aload_n 0, 1) := dk_42 (dk_at dksX10_learns_0 0 rfl rfl)
theorem dX10_learns_1 : decode cX10_learns 1 = .ok (.invokevirtual 470, 3) := dk_182 1 214 (dk_at dksX10_learns_0 1 rfl rfl)
theorem dX10_learns_4 : decode cX10_learns 4 = .ok (.aload_n 0, 1) := dk_42 (dk_at dksX10_learns_0 4 rfl rfl)
theorem dX10_learns_5 : decode cX10_learns 5 = .ok (.iload_n 3, 1) := dk_29 (dk_at dksX10_learns_0 5 rfl rfl)
theorem dX10_learns_6 : decode cX10_learns 6 = .ok (.putfield 395, 3) := dk_181 1 139 (dk_at dksX10_learns_0 6 rfl rfl)
theorem dX10_learns_9 : decode cX10_learns 9 = .ok (.aload_n 0, 1) := dk_42 (dk_at dksX10_learns_0 9 rfl rfl)
theorem dX10_learns_10 : decode cX10_learns 10 = .ok (.invokevirtual 473, 3) := dk_182 1 217 (dk_at dksX10_learns_0 10 rfl rfl)
theorem dX10_learns_13 : decode cX10_learns 13 = .ok (.aload_n 0, 1) := dk_42 (dk_at dksX10_learns_0 13 rfl rfl)
theorem dX10_learns_14 : decode cX10_learns 14 = .ok (.getfield 100, 3) := dk_180 0 100 (dk_at dksX10_learns_0 14 rfl rfl)
theorem dX10_learns_17 : decode cX10_learns 17 = .ok (.iconst 5, 1) := dk_8 (dk_at dksX10_learns_0 17 rfl rfl)
theorem dX10_learns_18 : decode cX10_learns 18 = .ok (.iload_n 1, 1) := dk_27 (dk_at dksX10_learns_0 18 rfl rfl)
theorem dX10_learns_19 : decode cX10_learns 19 = .ok (.iadd, 1) := dk_96 (dk_at dksX10_learns_0 19 rfl rfl)
theorem dX10_learns_20 : decode cX10_learns 20 = .ok (.iaload, 1) := dk_46 (dk_at dksX10_learns_0 20 rfl rfl)
theorem dX10_learns_21 : decode cX10_learns 21 = .ok (.iload_n 2, 1) := dk_28 (dk_at dksX10_learns_0 21 rfl rfl)
theorem dX10_learns_22 : decode cX10_learns 22 = .ok (.invokestatic 264, 3) := dk_184 1 8 (dk_at dksX10_learns_1 0 rfl rfl)
theorem dX10_learns_25 : decode cX10_learns 25 = .ok (.istore 4, 2) := dk_54 4 (dk_at dksX10_learns_1 3 rfl rfl)
theorem dX10_learns_27 : decode cX10_learns 27 = .ok (.aload_n 0, 1) := dk_42 (dk_at dksX10_learns_1 5 rfl rfl)
theorem dX10_learns_28 : decode cX10_learns 28 = .ok (.invokevirtual 371, 3) := dk_182 1 115 (dk_at dksX10_learns_1 6 rfl rfl)
theorem dX10_learns_31 : decode cX10_learns 31 = .ok (.iload 4, 2) := dk_21 4 (dk_at dksX10_learns_1 9 rfl rfl)
theorem dX10_learns_33 : decode cX10_learns 33 = .ok (.ireturn, 1) := dk_172 (dk_at dksX10_learns_1 11 rfl rfl)
def dkwX10_away_3 : List UInt8 := [28, 21, 4, 182, 1, 220, 154, 0, 6, 21, 4, 62, 132, 4, 1, 167, 255, 200, 29, 172]
abbrev dktX10_away_3 : List UInt8 := dkwX10_away_3 ++ []
def dkwX10_away_2 : List UInt8 := [154, 0, 36, 29, 155, 0, 18, 21, 4, 184, 1, 151, 29, 184, 1, 151, 161, 0, 6, 167, 0, 17, 42, 27]
abbrev dktX10_away_2 : List UInt8 := dkwX10_away_2 ++ dktX10_away_3
def dkwX10_away_1 : List UInt8 := [16, 254, 62, 3, 54, 4, 21, 4, 4, 42, 180, 0, 231, 120, 162, 0, 51, 21, 4, 27, 184, 1, 8]
abbrev dktX10_away_1 : List UInt8 := dkwX10_away_1 ++ dktX10_away_2
def dkwX10_away_0 : List UInt8 := [42, 3, 181, 0, 148, 42, 27, 182, 1, 187, 153, 0, 11, 42, 28, 182, 1, 208, 154, 0, 5, 2, 172]
abbrev dktX10_away_0 : List UInt8 := dkwX10_away_0 ++ dktX10_away_1
theorem dksX10_away_0 : cX10_away.data.toList.drop 0 = dktX10_away_0 := by decide +kernel
theorem dksX10_away_1 : cX10_away.data.toList.drop 23 = dktX10_away_1 := dk_seg dksX10_away_0 23 rfl rfl
theorem dksX10_away_2 : cX10_away.data.toList.drop 46 = dktX10_away_2 := dk_seg dksX10_away_1 23 rfl rfl
theorem dksX10_away_3 : cX10_away.data.toList.drop 70 = dktX10_away_3 := dk_seg dksX10_away_2 24 rfl rfl
theorem dX10_away_0 : decode cX10_away 0 = .ok (.aload_n 0, 1) := dk_42 (dk_at dksX10_away_0 0 rfl rfl)
theorem dX10_away_1 : decode cX10_away 1 = .ok (.iconst 0, 1) := dk_3 (dk_at dksX10_away_0 1 rfl rfl)
theorem dX10_away_2 : decode cX10_away 2 = .ok (.putfield 148, 3) := dk_181 0 148 (dk_at dksX10_away_0 2 rfl rfl)
theorem dX10_away_5 : decode cX10_away 5 = .ok (.aload_n 0, 1) := dk_42 (dk_at dksX10_away_0 5 rfl rfl)
theorem dX10_away_6 : decode cX10_away 6 = .ok (.iload_n 1, 1) := dk_27 (dk_at dksX10_away_0 6 rfl rfl)
theorem dX10_away_7 : decode cX10_away 7 = .ok (.invokevirtual 443, 3) := dk_182 1 187 (dk_at dksX10_away_0 7 rfl rfl)
theorem dX10_away_10 : decode cX10_away 10 = .ok (.ifCond .eq 11, 3) := dk_153 0 11 (dk_at dksX10_away_0 10 rfl rfl)
theorem dX10_away_13 : decode cX10_away 13 = .ok (.aload_n 0, 1) := dk_42 (dk_at dksX10_away_0 13 rfl rfl)
theorem dX10_away_14 : decode cX10_away 14 = .ok (.iload_n 2, 1) := dk_28 (dk_at dksX10_away_0 14 rfl rfl)
theorem dX10_away_15 : decode cX10_away 15 = .ok (.invokevirtual 464, 3) := dk_182 1 208 (dk_at dksX10_away_0 15 rfl rfl)
theorem dX10_away_18 : decode cX10_away 18 = .ok (.ifCond .ne 5, 3) := dk_154 0 5 (dk_at dksX10_away_0 18 rfl rfl)
theorem dX10_away_21 : decode cX10_away 21 = .ok (.iconst (-1), 1) := dk_2 (dk_at dksX10_away_0 21 rfl rfl)
theorem dX10_away_22 : decode cX10_away 22 = .ok (.ireturn, 1) := dk_172 (dk_at dksX10_away_0 22 rfl rfl)
theorem dX10_away_23 : decode cX10_away 23 = .ok (.bipush (-2), 2) := dk_16 254 (dk_at dksX10_away_1 0 rfl rfl)
theorem dX10_away_25 : decode cX10_away 25 = .ok (.istore_n 3, 1) := dk_62 (dk_at dksX10_away_1 2 rfl rfl)
theorem dX10_away_26 : decode cX10_away 26 = .ok (.iconst 0, 1) := dk_3 (dk_at dksX10_away_1 3 rfl rfl)
theorem dX10_away_27 : decode cX10_away 27 = .ok (.istore 4, 2) := dk_54 4 (dk_at dksX10_away_1 4 rfl rfl)
theorem dX10_away_29 : decode cX10_away 29 = .ok (.iload 4, 2) := dk_21 4 (dk_at dksX10_away_1 6 rfl rfl)
theorem dX10_away_31 : decode cX10_away 31 = .ok (.iconst 1, 1) := dk_4 (dk_at dksX10_away_1 8 rfl rfl)
theorem dX10_away_32 : decode cX10_away 32 = .ok (.aload_n 0, 1) := dk_42 (dk_at dksX10_away_1 9 rfl rfl)
theorem dX10_away_33 : decode cX10_away 33 = .ok (.getfield 231, 3) := dk_180 0 231 (dk_at dksX10_away_1 10 rfl rfl)
theorem dX10_away_36 : decode cX10_away 36 = .ok (.ishl, 1) := dk_120 (dk_at dksX10_away_1 13 rfl rfl)
theorem dX10_away_37 : decode cX10_away 37 = .ok (.if_icmp .ge 51, 3) := dk_162 0 51 (dk_at dksX10_away_1 14 rfl rfl)
theorem dX10_away_40 : decode cX10_away 40 = .ok (.iload 4, 2) := dk_21 4 (dk_at dksX10_away_1 17 rfl rfl)
theorem dX10_away_42 : decode cX10_away 42 = .ok (.iload_n 1, 1) := dk_27 (dk_at dksX10_away_1 19 rfl rfl)
theorem dX10_away_43 : decode cX10_away 43 = .ok (.invokestatic 264, 3) := dk_184 1 8 (dk_at dksX10_away_1 20 rfl rfl)
theorem dX10_away_46 : decode cX10_away 46 = .ok (.ifCond .ne 36, 3) := dk_154 0 36 (dk_at dksX10_away_2 0 rfl rfl)
theorem dX10_away_49 : decode cX10_away 49 = .ok (.iload_n 3, 1) := dk_29 (dk_at dksX10_away_2 3 rfl rfl)
theorem dX10_away_50 : decode cX10_away 50 = .ok (.ifCond .lt 18, 3) := dk_155 0 18 (dk_at dksX10_away_2 4 rfl rfl)
theorem dX10_away_53 : decode cX10_away 53 = .ok (.iload 4, 2) := dk_21 4 (dk_at dksX10_away_2 7 rfl rfl)
theorem dX10_away_55 : decode cX10_away 55 = .ok (.invokestatic 407, 3) := dk_184 1 151 (dk_at dksX10_away_2 9 rfl rfl)
theorem dX10_away_58 : decode cX10_away 58 = .ok (.iload_n 3, 1) := dk_29 (dk_at dksX10_away_2 12 rfl rfl)
theorem dX10_away_59 : decode cX10_away 59 = .ok (.invokestatic 407, 3) := dk_184 1 151 (dk_at dksX10_away_2 13 rfl rfl)
theorem dX10_away_62 : decode cX10_away 62 = .ok (.if_icmp .lt 6, 3) := dk_161 0 6 (dk_at dksX10_away_2 16 rfl rfl)
theorem dX10_away_65 : decode cX10_away 65 = .ok (.goto 17, 3) := dk_167 0 17 (dk_at dksX10_away_2 19 rfl rfl)
theorem dX10_away_68 : decode cX10_away 68 = .ok (.aload_n 0, 1) := dk_42 (dk_at dksX10_away_2 22 rfl rfl)
theorem dX10_away_69 : decode cX10_away 69 = .ok (.iload_n 1, 1) := dk_27 (dk_at dksX10_away_2 23 rfl rfl)
theorem dX10_away_70 : decode cX10_away 70 = .ok (.iload_n 2, 1) := dk_28 (dk_at dksX10_away_3 0 rfl rfl)
theorem dX10_away_71 : decode cX10_away 71 = .ok (.iload 4, 2) := dk_21 4 (dk_at dksX10_away_3 1 rfl rfl)
theorem dX10_away_73 : decode cX10_away 73 = .ok (.invokevirtual 476, 3) := dk_182 1 220 (dk_at dksX10_away_3 3 rfl rfl)
theorem dX10_away_76 : decode cX10_away 76 = .ok (.ifCond .ne 6, 3) := dk_154 0 6 (dk_at dksX10_away_3 6 rfl rfl)
theorem dX10_away_79 : decode cX10_away 79 = .ok (.iload 4, 2) := dk_21 4 (dk_at dksX10_away_3 9 rfl rfl)
theorem dX10_away_81 : decode cX10_away 81 = .ok (.istore_n 3, 1) := dk_62 (dk_at dksX10_away_3 11 rfl rfl)
theorem dX10_away_82 : decode cX10_away 82 = .ok (.iinc 4 1, 3) := dk_132 4 1 (dk_at dksX10_away_3 12 rfl rfl)
theorem dX10_away_85 : decode cX10_away 85 = .ok (.goto (-56), 3) := dk_167 255 200 (dk_at dksX10_away_3 15 rfl rfl)
theorem dX10_away_88 : decode cX10_away 88 = .ok (.iload_n 3, 1) := dk_29 (dk_at dksX10_away_3 18 rfl rfl)
theorem dX10_away_89 : decode cX10_away 89 = .ok (.ireturn, 1) := dk_172 (dk_at dksX10_away_3 19 rfl rfl)
def dkwX10_spread_2 : List UInt8 := [153, 0, 9, 4, 29, 120, 167, 0, 4, 3, 128, 61, 132, 3, 1, 167, 255, 220, 28, 172]
abbrev dktX10_spread_2 : List UInt8 := dkwX10_spread_2 ++ []
def dkwX10_spread_1 : List UInt8 := [61, 3, 62, 29, 42, 180, 0, 231, 162, 0, 34, 28, 42, 180, 0, 100, 8, 29, 96, 46, 27, 184, 1, 8]
abbrev dktX10_spread_1 : List UInt8 := dkwX10_spread_1 ++ dktX10_spread_2
def dkwX10_spread_0 : List UInt8 := [42, 3, 181, 0, 148, 42, 27, 182, 1, 208, 154, 0, 5, 2, 172, 42, 182, 1, 214, 42, 182, 1, 217, 3]
abbrev dktX10_spread_0 : List UInt8 := dkwX10_spread_0 ++ dktX10_spread_1
theorem dksX10_spread_0 : cX10_spread.data.toList.drop 0 = dktX10_spread_0 := by decide +kernel
theorem dksX10_spread_1 : cX10_spread.data.toList.drop 24 = dktX10_spread_1 := dk_seg dksX10_spread_0 24 rfl rfl
theorem dksX10_spread_2 : cX10_spread.data.toList.drop 48 = dktX10_spread_2 := dk_seg dksX10_spread_1 24 rfl rfl
theorem dX10_spread_0 : decode cX10_spread 0 = .ok (.aload_n 0, 1) := dk_42 (dk_at dksX10_spread_0 0 rfl rfl)
theorem dX10_spread_1 : decode cX10_spread 1 = .ok (.iconst 0, 1) := dk_3 (dk_at dksX10_spread_0 1 rfl rfl)
theorem dX10_spread_2 : decode cX10_spread 2 = .ok (.putfield 148, 3) := dk_181 0 148 (dk_at dksX10_spread_0 2 rfl rfl)
theorem dX10_spread_5 : decode cX10_spread 5 = .ok (.aload_n 0, 1) := dk_42 (dk_at dksX10_spread_0 5 rfl rfl)
theorem dX10_spread_6 : decode cX10_spread 6 = .ok (.iload_n 1, 1) := dk_27 (dk_at dksX10_spread_0 6 rfl rfl)
theorem dX10_spread_7 : decode cX10_spread 7 = .ok (.invokevirtual 464, 3) := dk_182 1 208 (dk_at dksX10_spread_0 7 rfl rfl)
theorem dX10_spread_10 : decode cX10_spread 10 = .ok (.ifCond .ne 5, 3) := dk_154 0 5 (dk_at dksX10_spread_0 10 rfl rfl)
theorem dX10_spread_13 : decode cX10_spread 13 = .ok (.iconst (-1), 1) := dk_2 (dk_at dksX10_spread_0 13 rfl rfl)
theorem dX10_spread_14 : decode cX10_spread 14 = .ok (.ireturn, 1) := dk_172 (dk_at dksX10_spread_0 14 rfl rfl)
theorem dX10_spread_15 : decode cX10_spread 15 = .ok (.aload_n 0, 1) := dk_42 (dk_at dksX10_spread_0 15 rfl rfl)
theorem dX10_spread_16 : decode cX10_spread 16 = .ok (.invokevirtual 470, 3) := dk_182 1 214 (dk_at dksX10_spread_0 16 rfl rfl)
theorem dX10_spread_19 : decode cX10_spread 19 = .ok (.aload_n 0, 1) := dk_42 (dk_at dksX10_spread_0 19 rfl rfl)
theorem dX10_spread_20 : decode cX10_spread 20 = .ok (.invokevirtual 473, 3) := dk_182 1 217 (dk_at dksX10_spread_0 20 rfl rfl)
theorem dX10_spread_23 : decode cX10_spread 23 = .ok (.iconst 0, 1) := dk_3 (dk_at dksX10_spread_0 23 rfl rfl)
theorem dX10_spread_24 : decode cX10_spread 24 = .ok (.istore_n 2, 1) := dk_61 (dk_at dksX10_spread_1 0 rfl rfl)
theorem dX10_spread_25 : decode cX10_spread 25 = .ok (.iconst 0, 1) := dk_3 (dk_at dksX10_spread_1 1 rfl rfl)
theorem dX10_spread_26 : decode cX10_spread 26 = .ok (.istore_n 3, 1) := dk_62 (dk_at dksX10_spread_1 2 rfl rfl)
theorem dX10_spread_27 : decode cX10_spread 27 = .ok (.iload_n 3, 1) := dk_29 (dk_at dksX10_spread_1 3 rfl rfl)
theorem dX10_spread_28 : decode cX10_spread 28 = .ok (.aload_n 0, 1) := dk_42 (dk_at dksX10_spread_1 4 rfl rfl)
theorem dX10_spread_29 : decode cX10_spread 29 = .ok (.getfield 231, 3) := dk_180 0 231 (dk_at dksX10_spread_1 5 rfl rfl)
theorem dX10_spread_32 : decode cX10_spread 32 = .ok (.if_icmp .ge 34, 3) := dk_162 0 34 (dk_at dksX10_spread_1 8 rfl rfl)
theorem dX10_spread_35 : decode cX10_spread 35 = .ok (.iload_n 2, 1) := dk_28 (dk_at dksX10_spread_1 11 rfl rfl)
theorem dX10_spread_36 : decode cX10_spread 36 = .ok (.aload_n 0, 1) := dk_42 (dk_at dksX10_spread_1 12 rfl rfl)
theorem dX10_spread_37 : decode cX10_spread 37 = .ok (.getfield 100, 3) := dk_180 0 100 (dk_at dksX10_spread_1 13 rfl rfl)
theorem dX10_spread_40 : decode cX10_spread 40 = .ok (.iconst 5, 1) := dk_8 (dk_at dksX10_spread_1 16 rfl rfl)
theorem dX10_spread_41 : decode cX10_spread 41 = .ok (.iload_n 3, 1) := dk_29 (dk_at dksX10_spread_1 17 rfl rfl)
theorem dX10_spread_42 : decode cX10_spread 42 = .ok (.iadd, 1) := dk_96 (dk_at dksX10_spread_1 18 rfl rfl)
theorem dX10_spread_43 : decode cX10_spread 43 = .ok (.iaload, 1) := dk_46 (dk_at dksX10_spread_1 19 rfl rfl)
theorem dX10_spread_44 : decode cX10_spread 44 = .ok (.iload_n 1, 1) := dk_27 (dk_at dksX10_spread_1 20 rfl rfl)
theorem dX10_spread_45 : decode cX10_spread 45 = .ok (.invokestatic 264, 3) := dk_184 1 8 (dk_at dksX10_spread_1 21 rfl rfl)
theorem dX10_spread_48 : decode cX10_spread 48 = .ok (.ifCond .eq 9, 3) := dk_153 0 9 (dk_at dksX10_spread_2 0 rfl rfl)
theorem dX10_spread_51 : decode cX10_spread 51 = .ok (.iconst 1, 1) := dk_4 (dk_at dksX10_spread_2 3 rfl rfl)
theorem dX10_spread_52 : decode cX10_spread 52 = .ok (.iload_n 3, 1) := dk_29 (dk_at dksX10_spread_2 4 rfl rfl)
theorem dX10_spread_53 : decode cX10_spread 53 = .ok (.ishl, 1) := dk_120 (dk_at dksX10_spread_2 5 rfl rfl)
theorem dX10_spread_54 : decode cX10_spread 54 = .ok (.goto 4, 3) := dk_167 0 4 (dk_at dksX10_spread_2 6 rfl rfl)
theorem dX10_spread_57 : decode cX10_spread 57 = .ok (.iconst 0, 1) := dk_3 (dk_at dksX10_spread_2 9 rfl rfl)
theorem dX10_spread_58 : decode cX10_spread 58 = .ok (.ior, 1) := dk_128 (dk_at dksX10_spread_2 10 rfl rfl)
theorem dX10_spread_59 : decode cX10_spread 59 = .ok (.istore_n 2, 1) := dk_61 (dk_at dksX10_spread_2 11 rfl rfl)
theorem dX10_spread_60 : decode cX10_spread 60 = .ok (.iinc 3 1, 3) := dk_132 3 1 (dk_at dksX10_spread_2 12 rfl rfl)
theorem dX10_spread_63 : decode cX10_spread 63 = .ok (.goto (-36), 3) := dk_167 255 220 (dk_at dksX10_spread_2 15 rfl rfl)
theorem dX10_spread_66 : decode cX10_spread 66 = .ok (.iload_n 2, 1) := dk_28 (dk_at dksX10_spread_2 18 rfl rfl)
theorem dX10_spread_67 : decode cX10_spread 67 = .ok (.ireturn, 1) := dk_172 (dk_at dksX10_spread_2 19 rfl rfl)
def dkwX10_hint_7 : List UInt8 := [16, 254, 172]
abbrev dktX10_hint_7 : List UInt8 := dkwX10_hint_7 ++ []
def dkwX10_hint_6 : List UInt8 := [154, 0, 8, 21, 4, 167, 0, 5, 21, 5, 172, 132, 5, 1, 167, 255, 161, 132, 4, 1, 167, 255, 143]
abbrev dktX10_hint_6 : List UInt8 := dkwX10_hint_6 ++ dktX10_hint_7
def dkwX10_hint_5 : List UInt8 := [180, 0, 100, 8, 27, 96, 46, 28, 184, 1, 8, 54, 6, 42, 182, 1, 115, 21, 6, 153, 0, 15, 29]
abbrev dktX10_hint_5 : List UInt8 := dkwX10_hint_5 ++ dktX10_hint_6
def dkwX10_hint_4 : List UInt8 := [182, 1, 214, 42, 180, 0, 100, 8, 21, 4, 96, 92, 46, 4, 21, 5, 120, 128, 79, 42, 182, 1, 217, 42]
abbrev dktX10_hint_4 : List UInt8 := dkwX10_hint_4 ++ dktX10_hint_5
def dkwX10_hint_3 : List UInt8 := [159, 0, 80, 42, 180, 0, 100, 21, 4, 46, 21, 5, 184, 1, 8, 153, 0, 6, 167, 0, 62, 42]
abbrev dktX10_hint_3 : List UInt8 := dkwX10_hint_3 ++ dktX10_hint_4
def dkwX10_hint_2 : List UInt8 := [21, 4, 42, 180, 0, 231, 162, 0, 110, 3, 54, 5, 21, 5, 42, 180, 0, 228, 162, 0, 92, 21, 5, 28]
abbrev dktX10_hint_2 : List UInt8 := dkwX10_hint_2 ++ dktX10_hint_3
def dkwX10_hint_1 : List UInt8 := [184, 0, 193, 154, 0, 5, 2, 172, 42, 27, 28, 3, 182, 1, 220, 153, 0, 6, 16, 254, 172, 3, 54, 4]
abbrev dktX10_hint_1 : List UInt8 := dkwX10_hint_1 ++ dktX10_hint_2
def dkwX10_hint_0 : List UInt8 := [42, 3, 181, 0, 148, 42, 27, 182, 1, 187, 153, 0, 20, 42, 28, 182, 1, 208, 153, 0, 12, 29, 3, 4]
abbrev dktX10_hint_0 : List UInt8 := dkwX10_hint_0 ++ dktX10_hint_1
theorem dksX10_hint_0 : cX10_hint.data.toList.drop 0 = dktX10_hint_0 := by decide +kernel
theorem dksX10_hint_1 : cX10_hint.data.toList.drop 24 = dktX10_hint_1 := dk_seg dksX10_hint_0 24 rfl rfl
theorem dksX10_hint_2 : cX10_hint.data.toList.drop 48 = dktX10_hint_2 := dk_seg dksX10_hint_1 24 rfl rfl
theorem dksX10_hint_3 : cX10_hint.data.toList.drop 72 = dktX10_hint_3 := dk_seg dksX10_hint_2 24 rfl rfl
theorem dksX10_hint_4 : cX10_hint.data.toList.drop 94 = dktX10_hint_4 := dk_seg dksX10_hint_3 22 rfl rfl
theorem dksX10_hint_5 : cX10_hint.data.toList.drop 118 = dktX10_hint_5 := dk_seg dksX10_hint_4 24 rfl rfl
theorem dksX10_hint_6 : cX10_hint.data.toList.drop 141 = dktX10_hint_6 := dk_seg dksX10_hint_5 23 rfl rfl
theorem dksX10_hint_7 : cX10_hint.data.toList.drop 164 = dktX10_hint_7 := dk_seg dksX10_hint_6 23 rfl rfl
theorem dX10_hint_0 : decode cX10_hint 0 = .ok (.aload_n 0, 1) := dk_42 (dk_at dksX10_hint_0 0 rfl rfl)
theorem dX10_hint_1 : decode cX10_hint 1 = .ok (.iconst 0, 1) := dk_3 (dk_at dksX10_hint_0 1 rfl rfl)
theorem dX10_hint_2 : decode cX10_hint 2 = .ok (.putfield 148, 3) := dk_181 0 148 (dk_at dksX10_hint_0 2 rfl rfl)
theorem dX10_hint_5 : decode cX10_hint 5 = .ok (.aload_n 0, 1) := dk_42 (dk_at dksX10_hint_0 5 rfl rfl)
theorem dX10_hint_6 : decode cX10_hint 6 = .ok (.iload_n 1, 1) := dk_27 (dk_at dksX10_hint_0 6 rfl rfl)
theorem dX10_hint_7 : decode cX10_hint 7 = .ok (.invokevirtual 443, 3) := dk_182 1 187 (dk_at dksX10_hint_0 7 rfl rfl)
theorem dX10_hint_10 : decode cX10_hint 10 = .ok (.ifCond .eq 20, 3) := dk_153 0 20 (dk_at dksX10_hint_0 10 rfl rfl)
theorem dX10_hint_13 : decode cX10_hint 13 = .ok (.aload_n 0, 1) := dk_42 (dk_at dksX10_hint_0 13 rfl rfl)
theorem dX10_hint_14 : decode cX10_hint 14 = .ok (.iload_n 2, 1) := dk_28 (dk_at dksX10_hint_0 14 rfl rfl)
theorem dX10_hint_15 : decode cX10_hint 15 = .ok (.invokevirtual 464, 3) := dk_182 1 208 (dk_at dksX10_hint_0 15 rfl rfl)
theorem dX10_hint_18 : decode cX10_hint 18 = .ok (.ifCond .eq 12, 3) := dk_153 0 12 (dk_at dksX10_hint_0 18 rfl rfl)
theorem dX10_hint_21 : decode cX10_hint 21 = .ok (.iload_n 3, 1) := dk_29 (dk_at dksX10_hint_0 21 rfl rfl)
theorem dX10_hint_22 : decode cX10_hint 22 = .ok (.iconst 0, 1) := dk_3 (dk_at dksX10_hint_0 22 rfl rfl)
theorem dX10_hint_23 : decode cX10_hint 23 = .ok (.iconst 1, 1) := dk_4 (dk_at dksX10_hint_0 23 rfl rfl)
theorem dX10_hint_24 : decode cX10_hint 24 = .ok (.invokestatic 193, 3) := dk_184 0 193 (dk_at dksX10_hint_1 0 rfl rfl)
theorem dX10_hint_27 : decode cX10_hint 27 = .ok (.ifCond .ne 5, 3) := dk_154 0 5 (dk_at dksX10_hint_1 3 rfl rfl)
theorem dX10_hint_30 : decode cX10_hint 30 = .ok (.iconst (-1), 1) := dk_2 (dk_at dksX10_hint_1 6 rfl rfl)
theorem dX10_hint_31 : decode cX10_hint 31 = .ok (.ireturn, 1) := dk_172 (dk_at dksX10_hint_1 7 rfl rfl)
theorem dX10_hint_32 : decode cX10_hint 32 = .ok (.aload_n 0, 1) := dk_42 (dk_at dksX10_hint_1 8 rfl rfl)
theorem dX10_hint_33 : decode cX10_hint 33 = .ok (.iload_n 1, 1) := dk_27 (dk_at dksX10_hint_1 9 rfl rfl)
theorem dX10_hint_34 : decode cX10_hint 34 = .ok (.iload_n 2, 1) := dk_28 (dk_at dksX10_hint_1 10 rfl rfl)
theorem dX10_hint_35 : decode cX10_hint 35 = .ok (.iconst 0, 1) := dk_3 (dk_at dksX10_hint_1 11 rfl rfl)
theorem dX10_hint_36 : decode cX10_hint 36 = .ok (.invokevirtual 476, 3) := dk_182 1 220 (dk_at dksX10_hint_1 12 rfl rfl)
theorem dX10_hint_39 : decode cX10_hint 39 = .ok (.ifCond .eq 6, 3) := dk_153 0 6 (dk_at dksX10_hint_1 15 rfl rfl)
theorem dX10_hint_42 : decode cX10_hint 42 = .ok (.bipush (-2), 2) := dk_16 254 (dk_at dksX10_hint_1 18 rfl rfl)
theorem dX10_hint_44 : decode cX10_hint 44 = .ok (.ireturn, 1) := dk_172 (dk_at dksX10_hint_1 20 rfl rfl)
theorem dX10_hint_45 : decode cX10_hint 45 = .ok (.iconst 0, 1) := dk_3 (dk_at dksX10_hint_1 21 rfl rfl)
theorem dX10_hint_46 : decode cX10_hint 46 = .ok (.istore 4, 2) := dk_54 4 (dk_at dksX10_hint_1 22 rfl rfl)
theorem dX10_hint_48 : decode cX10_hint 48 = .ok (.iload 4, 2) := dk_21 4 (dk_at dksX10_hint_2 0 rfl rfl)
theorem dX10_hint_50 : decode cX10_hint 50 = .ok (.aload_n 0, 1) := dk_42 (dk_at dksX10_hint_2 2 rfl rfl)
theorem dX10_hint_51 : decode cX10_hint 51 = .ok (.getfield 231, 3) := dk_180 0 231 (dk_at dksX10_hint_2 3 rfl rfl)
theorem dX10_hint_54 : decode cX10_hint 54 = .ok (.if_icmp .ge 110, 3) := dk_162 0 110 (dk_at dksX10_hint_2 6 rfl rfl)
theorem dX10_hint_57 : decode cX10_hint 57 = .ok (.iconst 0, 1) := dk_3 (dk_at dksX10_hint_2 9 rfl rfl)
theorem dX10_hint_58 : decode cX10_hint 58 = .ok (.istore 5, 2) := dk_54 5 (dk_at dksX10_hint_2 10 rfl rfl)
theorem dX10_hint_60 : decode cX10_hint 60 = .ok (.iload 5, 2) := dk_21 5 (dk_at dksX10_hint_2 12 rfl rfl)
theorem dX10_hint_62 : decode cX10_hint 62 = .ok (.aload_n 0, 1) := dk_42 (dk_at dksX10_hint_2 14 rfl rfl)
theorem dX10_hint_63 : decode cX10_hint 63 = .ok (.getfield 228, 3) := dk_180 0 228 (dk_at dksX10_hint_2 15 rfl rfl)
theorem dX10_hint_66 : decode cX10_hint 66 = .ok (.if_icmp .ge 92, 3) := dk_162 0 92 (dk_at dksX10_hint_2 18 rfl rfl)
theorem dX10_hint_69 : decode cX10_hint 69 = .ok (.iload 5, 2) := dk_21 5 (dk_at dksX10_hint_2 21 rfl rfl)
theorem dX10_hint_71 : decode cX10_hint 71 = .ok (.iload_n 2, 1) := dk_28 (dk_at dksX10_hint_2 23 rfl rfl)
theorem dX10_hint_72 : decode cX10_hint 72 = .ok (.if_icmp .eq 80, 3) := dk_159 0 80 (dk_at dksX10_hint_3 0 rfl rfl)
theorem dX10_hint_75 : decode cX10_hint 75 = .ok (.aload_n 0, 1) := dk_42 (dk_at dksX10_hint_3 3 rfl rfl)
theorem dX10_hint_76 : decode cX10_hint 76 = .ok (.getfield 100, 3) := dk_180 0 100 (dk_at dksX10_hint_3 4 rfl rfl)
theorem dX10_hint_79 : decode cX10_hint 79 = .ok (.iload 4, 2) := dk_21 4 (dk_at dksX10_hint_3 7 rfl rfl)
theorem dX10_hint_81 : decode cX10_hint 81 = .ok (.iaload, 1) := dk_46 (dk_at dksX10_hint_3 9 rfl rfl)
theorem dX10_hint_82 : decode cX10_hint 82 = .ok (.iload 5, 2) := dk_21 5 (dk_at dksX10_hint_3 10 rfl rfl)
theorem dX10_hint_84 : decode cX10_hint 84 = .ok (.invokestatic 264, 3) := dk_184 1 8 (dk_at dksX10_hint_3 12 rfl rfl)
theorem dX10_hint_87 : decode cX10_hint 87 = .ok (.ifCond .eq 6, 3) := dk_153 0 6 (dk_at dksX10_hint_3 15 rfl rfl)
theorem dX10_hint_90 : decode cX10_hint 90 = .ok (.goto 62, 3) := dk_167 0 62 (dk_at dksX10_hint_3 18 rfl rfl)
theorem dX10_hint_93 : decode cX10_hint 93 = .ok (.aload_n 0, 1) := dk_42 (dk_at dksX10_hint_3 21 rfl rfl)
theorem dX10_hint_94 : decode cX10_hint 94 = .ok (.invokevirtual 470, 3) := dk_182 1 214 (dk_at dksX10_hint_4 0 rfl rfl)
theorem dX10_hint_97 : decode cX10_hint 97 = .ok (.aload_n 0, 1) := dk_42 (dk_at dksX10_hint_4 3 rfl rfl)
theorem dX10_hint_98 : decode cX10_hint 98 = .ok (.getfield 100, 3) := dk_180 0 100 (dk_at dksX10_hint_4 4 rfl rfl)
theorem dX10_hint_101 : decode cX10_hint 101 = .ok (.iconst 5, 1) := dk_8 (dk_at dksX10_hint_4 7 rfl rfl)
theorem dX10_hint_102 : decode cX10_hint 102 = .ok (.iload 4, 2) := dk_21 4 (dk_at dksX10_hint_4 8 rfl rfl)
theorem dX10_hint_104 : decode cX10_hint 104 = .ok (.iadd, 1) := dk_96 (dk_at dksX10_hint_4 10 rfl rfl)
theorem dX10_hint_105 : decode cX10_hint 105 = .ok (.dup2, 1) := dk_92 (dk_at dksX10_hint_4 11 rfl rfl)
theorem dX10_hint_106 : decode cX10_hint 106 = .ok (.iaload, 1) := dk_46 (dk_at dksX10_hint_4 12 rfl rfl)
theorem dX10_hint_107 : decode cX10_hint 107 = .ok (.iconst 1, 1) := dk_4 (dk_at dksX10_hint_4 13 rfl rfl)
theorem dX10_hint_108 : decode cX10_hint 108 = .ok (.iload 5, 2) := dk_21 5 (dk_at dksX10_hint_4 14 rfl rfl)
theorem dX10_hint_110 : decode cX10_hint 110 = .ok (.ishl, 1) := dk_120 (dk_at dksX10_hint_4 16 rfl rfl)
theorem dX10_hint_111 : decode cX10_hint 111 = .ok (.ior, 1) := dk_128 (dk_at dksX10_hint_4 17 rfl rfl)
theorem dX10_hint_112 : decode cX10_hint 112 = .ok (.iastore, 1) := dk_79 (dk_at dksX10_hint_4 18 rfl rfl)
theorem dX10_hint_113 : decode cX10_hint 113 = .ok (.aload_n 0, 1) := dk_42 (dk_at dksX10_hint_4 19 rfl rfl)
theorem dX10_hint_114 : decode cX10_hint 114 = .ok (.invokevirtual 473, 3) := dk_182 1 217 (dk_at dksX10_hint_4 20 rfl rfl)
theorem dX10_hint_117 : decode cX10_hint 117 = .ok (.aload_n 0, 1) := dk_42 (dk_at dksX10_hint_4 23 rfl rfl)
theorem dX10_hint_118 : decode cX10_hint 118 = .ok (.getfield 100, 3) := dk_180 0 100 (dk_at dksX10_hint_5 0 rfl rfl)
theorem dX10_hint_121 : decode cX10_hint 121 = .ok (.iconst 5, 1) := dk_8 (dk_at dksX10_hint_5 3 rfl rfl)
theorem dX10_hint_122 : decode cX10_hint 122 = .ok (.iload_n 1, 1) := dk_27 (dk_at dksX10_hint_5 4 rfl rfl)
theorem dX10_hint_123 : decode cX10_hint 123 = .ok (.iadd, 1) := dk_96 (dk_at dksX10_hint_5 5 rfl rfl)
theorem dX10_hint_124 : decode cX10_hint 124 = .ok (.iaload, 1) := dk_46 (dk_at dksX10_hint_5 6 rfl rfl)
theorem dX10_hint_125 : decode cX10_hint 125 = .ok (.iload_n 2, 1) := dk_28 (dk_at dksX10_hint_5 7 rfl rfl)
theorem dX10_hint_126 : decode cX10_hint 126 = .ok (.invokestatic 264, 3) := dk_184 1 8 (dk_at dksX10_hint_5 8 rfl rfl)
theorem dX10_hint_129 : decode cX10_hint 129 = .ok (.istore 6, 2) := dk_54 6 (dk_at dksX10_hint_5 11 rfl rfl)
theorem dX10_hint_131 : decode cX10_hint 131 = .ok (.aload_n 0, 1) := dk_42 (dk_at dksX10_hint_5 13 rfl rfl)
theorem dX10_hint_132 : decode cX10_hint 132 = .ok (.invokevirtual 371, 3) := dk_182 1 115 (dk_at dksX10_hint_5 14 rfl rfl)
theorem dX10_hint_135 : decode cX10_hint 135 = .ok (.iload 6, 2) := dk_21 6 (dk_at dksX10_hint_5 17 rfl rfl)
theorem dX10_hint_137 : decode cX10_hint 137 = .ok (.ifCond .eq 15, 3) := dk_153 0 15 (dk_at dksX10_hint_5 19 rfl rfl)
theorem dX10_hint_140 : decode cX10_hint 140 = .ok (.iload_n 3, 1) := dk_29 (dk_at dksX10_hint_5 22 rfl rfl)
theorem dX10_hint_141 : decode cX10_hint 141 = .ok (.ifCond .ne 8, 3) := dk_154 0 8 (dk_at dksX10_hint_6 0 rfl rfl)
theorem dX10_hint_144 : decode cX10_hint 144 = .ok (.iload 4, 2) := dk_21 4 (dk_at dksX10_hint_6 3 rfl rfl)
theorem dX10_hint_146 : decode cX10_hint 146 = .ok (.goto 5, 3) := dk_167 0 5 (dk_at dksX10_hint_6 5 rfl rfl)
theorem dX10_hint_149 : decode cX10_hint 149 = .ok (.iload 5, 2) := dk_21 5 (dk_at dksX10_hint_6 8 rfl rfl)
theorem dX10_hint_151 : decode cX10_hint 151 = .ok (.ireturn, 1) := dk_172 (dk_at dksX10_hint_6 10 rfl rfl)
theorem dX10_hint_152 : decode cX10_hint 152 = .ok (.iinc 5 1, 3) := dk_132 5 1 (dk_at dksX10_hint_6 11 rfl rfl)
theorem dX10_hint_155 : decode cX10_hint 155 = .ok (.goto (-95), 3) := dk_167 255 161 (dk_at dksX10_hint_6 14 rfl rfl)
theorem dX10_hint_158 : decode cX10_hint 158 = .ok (.iinc 4 1, 3) := dk_132 4 1 (dk_at dksX10_hint_6 17 rfl rfl)
theorem dX10_hint_161 : decode cX10_hint 161 = .ok (.goto (-113), 3) := dk_167 255 143 (dk_at dksX10_hint_6 20 rfl rfl)
theorem dX10_hint_164 : decode cX10_hint 164 = .ok (.bipush (-2), 2) := dk_16 254 (dk_at dksX10_hint_7 0 rfl rfl)
theorem dX10_hint_166 : decode cX10_hint 166 = .ok (.ireturn, 1) := dk_172 (dk_at dksX10_hint_7 2 rfl rfl)
def dkwX10_unasked_3 : List UInt8 := [132, 4, 1, 167, 255, 224, 132, 3, 1, 167, 255, 207, 28, 172]
abbrev dktX10_unasked_3 : List UInt8 := dkwX10_unasked_3 ++ []
def dkwX10_unasked_2 : List UInt8 := [162, 0, 29, 42, 3, 27, 21, 4, 29, 182, 1, 196, 153, 0, 11, 28, 4, 29, 120, 2, 130, 126, 61]
abbrev dktX10_unasked_2 : List UInt8 := dkwX10_unasked_2 ++ dktX10_unasked_3
def dkwX10_unasked_1 : List UInt8 := [120, 4, 100, 61, 3, 62, 29, 42, 180, 0, 234, 162, 0, 47, 3, 54, 4, 21, 4, 42, 180, 0, 231]
abbrev dktX10_unasked_1 : List UInt8 := dkwX10_unasked_1 ++ dktX10_unasked_2
def dkwX10_unasked_0 : List UInt8 := [42, 3, 181, 0, 148, 42, 27, 182, 1, 187, 154, 0, 5, 2, 172, 42, 182, 1, 115, 4, 42, 180, 0, 234]
abbrev dktX10_unasked_0 : List UInt8 := dkwX10_unasked_0 ++ dktX10_unasked_1
theorem dksX10_unasked_0 : cX10_unasked.data.toList.drop 0 = dktX10_unasked_0 := by decide +kernel
theorem dksX10_unasked_1 : cX10_unasked.data.toList.drop 24 = dktX10_unasked_1 := dk_seg dksX10_unasked_0 24 rfl rfl
theorem dksX10_unasked_2 : cX10_unasked.data.toList.drop 47 = dktX10_unasked_2 := dk_seg dksX10_unasked_1 23 rfl rfl
theorem dksX10_unasked_3 : cX10_unasked.data.toList.drop 70 = dktX10_unasked_3 := dk_seg dksX10_unasked_2 23 rfl rfl
theorem dX10_unasked_0 : decode cX10_unasked 0 = .ok (.aload_n 0, 1) := dk_42 (dk_at dksX10_unasked_0 0 rfl rfl)
theorem dX10_unasked_1 : decode cX10_unasked 1 = .ok (.iconst 0, 1) := dk_3 (dk_at dksX10_unasked_0 1 rfl rfl)
theorem dX10_unasked_2 : decode cX10_unasked 2 = .ok (.putfield 148, 3) := dk_181 0 148 (dk_at dksX10_unasked_0 2 rfl rfl)
theorem dX10_unasked_5 : decode cX10_unasked 5 = .ok (.aload_n 0, 1) := dk_42 (dk_at dksX10_unasked_0 5 rfl rfl)
theorem dX10_unasked_6 : decode cX10_unasked 6 = .ok (.iload_n 1, 1) := dk_27 (dk_at dksX10_unasked_0 6 rfl rfl)
theorem dX10_unasked_7 : decode cX10_unasked 7 = .ok (.invokevirtual 443, 3) := dk_182 1 187 (dk_at dksX10_unasked_0 7 rfl rfl)
theorem dX10_unasked_10 : decode cX10_unasked 10 = .ok (.ifCond .ne 5, 3) := dk_154 0 5 (dk_at dksX10_unasked_0 10 rfl rfl)
theorem dX10_unasked_13 : decode cX10_unasked 13 = .ok (.iconst (-1), 1) := dk_2 (dk_at dksX10_unasked_0 13 rfl rfl)
theorem dX10_unasked_14 : decode cX10_unasked 14 = .ok (.ireturn, 1) := dk_172 (dk_at dksX10_unasked_0 14 rfl rfl)
theorem dX10_unasked_15 : decode cX10_unasked 15 = .ok (.aload_n 0, 1) := dk_42 (dk_at dksX10_unasked_0 15 rfl rfl)
theorem dX10_unasked_16 : decode cX10_unasked 16 = .ok (.invokevirtual 371, 3) := dk_182 1 115 (dk_at dksX10_unasked_0 16 rfl rfl)
theorem dX10_unasked_19 : decode cX10_unasked 19 = .ok (.iconst 1, 1) := dk_4 (dk_at dksX10_unasked_0 19 rfl rfl)
theorem dX10_unasked_20 : decode cX10_unasked 20 = .ok (.aload_n 0, 1) := dk_42 (dk_at dksX10_unasked_0 20 rfl rfl)
theorem dX10_unasked_21 : decode cX10_unasked 21 = .ok (.getfield 234, 3) := dk_180 0 234 (dk_at dksX10_unasked_0 21 rfl rfl)
theorem dX10_unasked_24 : decode cX10_unasked 24 = .ok (.ishl, 1) := dk_120 (dk_at dksX10_unasked_1 0 rfl rfl)
theorem dX10_unasked_25 : decode cX10_unasked 25 = .ok (.iconst 1, 1) := dk_4 (dk_at dksX10_unasked_1 1 rfl rfl)
theorem dX10_unasked_26 : decode cX10_unasked 26 = .ok (.isub, 1) := dk_100 (dk_at dksX10_unasked_1 2 rfl rfl)
theorem dX10_unasked_27 : decode cX10_unasked 27 = .ok (.istore_n 2, 1) := dk_61 (dk_at dksX10_unasked_1 3 rfl rfl)
theorem dX10_unasked_28 : decode cX10_unasked 28 = .ok (.iconst 0, 1) := dk_3 (dk_at dksX10_unasked_1 4 rfl rfl)
theorem dX10_unasked_29 : decode cX10_unasked 29 = .ok (.istore_n 3, 1) := dk_62 (dk_at dksX10_unasked_1 5 rfl rfl)
theorem dX10_unasked_30 : decode cX10_unasked 30 = .ok (.iload_n 3, 1) := dk_29 (dk_at dksX10_unasked_1 6 rfl rfl)
theorem dX10_unasked_31 : decode cX10_unasked 31 = .ok (.aload_n 0, 1) := dk_42 (dk_at dksX10_unasked_1 7 rfl rfl)
theorem dX10_unasked_32 : decode cX10_unasked 32 = .ok (.getfield 234, 3) := dk_180 0 234 (dk_at dksX10_unasked_1 8 rfl rfl)
theorem dX10_unasked_35 : decode cX10_unasked 35 = .ok (.if_icmp .ge 47, 3) := dk_162 0 47 (dk_at dksX10_unasked_1 11 rfl rfl)
theorem dX10_unasked_38 : decode cX10_unasked 38 = .ok (.iconst 0, 1) := dk_3 (dk_at dksX10_unasked_1 14 rfl rfl)
theorem dX10_unasked_39 : decode cX10_unasked 39 = .ok (.istore 4, 2) := dk_54 4 (dk_at dksX10_unasked_1 15 rfl rfl)
theorem dX10_unasked_41 : decode cX10_unasked 41 = .ok (.iload 4, 2) := dk_21 4 (dk_at dksX10_unasked_1 17 rfl rfl)
theorem dX10_unasked_43 : decode cX10_unasked 43 = .ok (.aload_n 0, 1) := dk_42 (dk_at dksX10_unasked_1 19 rfl rfl)
theorem dX10_unasked_44 : decode cX10_unasked 44 = .ok (.getfield 231, 3) := dk_180 0 231 (dk_at dksX10_unasked_1 20 rfl rfl)
theorem dX10_unasked_47 : decode cX10_unasked 47 = .ok (.if_icmp .ge 29, 3) := dk_162 0 29 (dk_at dksX10_unasked_2 0 rfl rfl)
theorem dX10_unasked_50 : decode cX10_unasked 50 = .ok (.aload_n 0, 1) := dk_42 (dk_at dksX10_unasked_2 3 rfl rfl)
theorem dX10_unasked_51 : decode cX10_unasked 51 = .ok (.iconst 0, 1) := dk_3 (dk_at dksX10_unasked_2 4 rfl rfl)
theorem dX10_unasked_52 : decode cX10_unasked 52 = .ok (.iload_n 1, 1) := dk_27 (dk_at dksX10_unasked_2 5 rfl rfl)
theorem dX10_unasked_53 : decode cX10_unasked 53 = .ok (.iload 4, 2) := dk_21 4 (dk_at dksX10_unasked_2 6 rfl rfl)
theorem dX10_unasked_55 : decode cX10_unasked 55 = .ok (.iload_n 3, 1) := dk_29 (dk_at dksX10_unasked_2 8 rfl rfl)
theorem dX10_unasked_56 : decode cX10_unasked 56 = .ok (.invokevirtual 452, 3) := dk_182 1 196 (dk_at dksX10_unasked_2 9 rfl rfl)
theorem dX10_unasked_59 : decode cX10_unasked 59 = .ok (.ifCond .eq 11, 3) := dk_153 0 11 (dk_at dksX10_unasked_2 12 rfl rfl)
theorem dX10_unasked_62 : decode cX10_unasked 62 = .ok (.iload_n 2, 1) := dk_28 (dk_at dksX10_unasked_2 15 rfl rfl)
theorem dX10_unasked_63 : decode cX10_unasked 63 = .ok (.iconst 1, 1) := dk_4 (dk_at dksX10_unasked_2 16 rfl rfl)
theorem dX10_unasked_64 : decode cX10_unasked 64 = .ok (.iload_n 3, 1) := dk_29 (dk_at dksX10_unasked_2 17 rfl rfl)
theorem dX10_unasked_65 : decode cX10_unasked 65 = .ok (.ishl, 1) := dk_120 (dk_at dksX10_unasked_2 18 rfl rfl)
theorem dX10_unasked_66 : decode cX10_unasked 66 = .ok (.iconst (-1), 1) := dk_2 (dk_at dksX10_unasked_2 19 rfl rfl)
theorem dX10_unasked_67 : decode cX10_unasked 67 = .ok (.ixor, 1) := dk_130 (dk_at dksX10_unasked_2 20 rfl rfl)
theorem dX10_unasked_68 : decode cX10_unasked 68 = .ok (.iand, 1) := dk_126 (dk_at dksX10_unasked_2 21 rfl rfl)
theorem dX10_unasked_69 : decode cX10_unasked 69 = .ok (.istore_n 2, 1) := dk_61 (dk_at dksX10_unasked_2 22 rfl rfl)
theorem dX10_unasked_70 : decode cX10_unasked 70 = .ok (.iinc 4 1, 3) := dk_132 4 1 (dk_at dksX10_unasked_3 0 rfl rfl)
theorem dX10_unasked_73 : decode cX10_unasked 73 = .ok (.goto (-32), 3) := dk_167 255 224 (dk_at dksX10_unasked_3 3 rfl rfl)
theorem dX10_unasked_76 : decode cX10_unasked 76 = .ok (.iinc 3 1, 3) := dk_132 3 1 (dk_at dksX10_unasked_3 6 rfl rfl)
theorem dX10_unasked_79 : decode cX10_unasked 79 = .ok (.goto (-49), 3) := dk_167 255 207 (dk_at dksX10_unasked_3 9 rfl rfl)
theorem dX10_unasked_82 : decode cX10_unasked 82 = .ok (.iload_n 2, 1) := dk_28 (dk_at dksX10_unasked_3 12 rfl rfl)
theorem dX10_unasked_83 : decode cX10_unasked 83 = .ok (.ireturn, 1) := dk_172 (dk_at dksX10_unasked_3 13 rfl rfl)
def dkwX10_inRoom_1 : List UInt8 := [28, 182, 1, 223, 167, 0, 4, 2, 172]
abbrev dktX10_inRoom_1 : List UInt8 := dkwX10_inRoom_1 ++ []
def dkwX10_inRoom_0 : List UInt8 := [42, 3, 181, 0, 148, 42, 27, 182, 1, 187, 153, 0, 21, 28, 3, 6, 184, 0, 193, 153, 0, 12, 42, 27]
abbrev dktX10_inRoom_0 : List UInt8 := dkwX10_inRoom_0 ++ dktX10_inRoom_1
theorem dksX10_inRoom_0 : cX10_inRoom.data.toList.drop 0 = dktX10_inRoom_0 := by decide +kernel
theorem dksX10_inRoom_1 : cX10_inRoom.data.toList.drop 24 = dktX10_inRoom_1 := dk_seg dksX10_inRoom_0 24 rfl rfl
theorem dX10_inRoom_0 : decode cX10_inRoom 0 = .ok (.aload_n 0, 1) := dk_42 (dk_at dksX10_inRoom_0 0 rfl rfl)
theorem dX10_inRoom_1 : decode cX10_inRoom 1 = .ok (.iconst 0, 1) := dk_3 (dk_at dksX10_inRoom_0 1 rfl rfl)
theorem dX10_inRoom_2 : decode cX10_inRoom 2 = .ok (.putfield 148, 3) := dk_181 0 148 (dk_at dksX10_inRoom_0 2 rfl rfl)
theorem dX10_inRoom_5 : decode cX10_inRoom 5 = .ok (.aload_n 0, 1) := dk_42 (dk_at dksX10_inRoom_0 5 rfl rfl)
theorem dX10_inRoom_6 : decode cX10_inRoom 6 = .ok (.iload_n 1, 1) := dk_27 (dk_at dksX10_inRoom_0 6 rfl rfl)
theorem dX10_inRoom_7 : decode cX10_inRoom 7 = .ok (.invokevirtual 443, 3) := dk_182 1 187 (dk_at dksX10_inRoom_0 7 rfl rfl)
theorem dX10_inRoom_10 : decode cX10_inRoom 10 = .ok (.ifCond .eq 21, 3) := dk_153 0 21 (dk_at dksX10_inRoom_0 10 rfl rfl)
theorem dX10_inRoom_13 : decode cX10_inRoom 13 = .ok (.iload_n 2, 1) := dk_28 (dk_at dksX10_inRoom_0 13 rfl rfl)
theorem dX10_inRoom_14 : decode cX10_inRoom 14 = .ok (.iconst 0, 1) := dk_3 (dk_at dksX10_inRoom_0 14 rfl rfl)
theorem dX10_inRoom_15 : decode cX10_inRoom 15 = .ok (.iconst 3, 1) := dk_6 (dk_at dksX10_inRoom_0 15 rfl rfl)
theorem dX10_inRoom_16 : decode cX10_inRoom 16 = .ok (.invokestatic 193, 3) := dk_184 0 193 (dk_at dksX10_inRoom_0 16 rfl rfl)
theorem dX10_inRoom_19 : decode cX10_inRoom 19 = .ok (.ifCond .eq 12, 3) := dk_153 0 12 (dk_at dksX10_inRoom_0 19 rfl rfl)
theorem dX10_inRoom_22 : decode cX10_inRoom 22 = .ok (.aload_n 0, 1) := dk_42 (dk_at dksX10_inRoom_0 22 rfl rfl)
theorem dX10_inRoom_23 : decode cX10_inRoom 23 = .ok (.iload_n 1, 1) := dk_27 (dk_at dksX10_inRoom_0 23 rfl rfl)
theorem dX10_inRoom_24 : decode cX10_inRoom 24 = .ok (.iload_n 2, 1) := dk_28 (dk_at dksX10_inRoom_1 0 rfl rfl)
theorem dX10_inRoom_25 : decode cX10_inRoom 25 = .ok (.invokevirtual 479, 3) := dk_182 1 223 (dk_at dksX10_inRoom_1 1 rfl rfl)
theorem dX10_inRoom_28 : decode cX10_inRoom 28 = .ok (.goto 4, 3) := dk_167 0 4 (dk_at dksX10_inRoom_1 4 rfl rfl)
theorem dX10_inRoom_31 : decode cX10_inRoom 31 = .ok (.iconst (-1), 1) := dk_2 (dk_at dksX10_inRoom_1 7 rfl rfl)
theorem dX10_inRoom_32 : decode cX10_inRoom 32 = .ok (.ireturn, 1) := dk_172 (dk_at dksX10_inRoom_1 8 rfl rfl)
def dkwX10_sumInRoom_0 : List UInt8 := [42, 182, 1, 214, 42, 180, 0, 106, 8, 27, 96, 28, 79, 42, 182, 1, 217, 42, 4, 182, 1, 211, 172]
abbrev dktX10_sumInRoom_0 : List UInt8 := dkwX10_sumInRoom_0 ++ []
theorem dksX10_sumInRoom_0 : cX10_sumInRoom.data.toList.drop 0 = dktX10_sumInRoom_0 := by decide +kernel
theorem dX10_sumInRoom_0 : decode cX10_sumInRoom 0 = .ok (.aload_n 0, 1) := dk_42 (dk_at dksX10_sumInRoom_0 0 rfl rfl)
theorem dX10_sumInRoom_1 : decode cX10_sumInRoom 1 = .ok (.invokevirtual 470, 3) := dk_182 1 214 (dk_at dksX10_sumInRoom_0 1 rfl rfl)
theorem dX10_sumInRoom_4 : decode cX10_sumInRoom 4 = .ok (.aload_n 0, 1) := dk_42 (dk_at dksX10_sumInRoom_0 4 rfl rfl)
theorem dX10_sumInRoom_5 : decode cX10_sumInRoom 5 = .ok (.getfield 106, 3) := dk_180 0 106 (dk_at dksX10_sumInRoom_0 5 rfl rfl)
theorem dX10_sumInRoom_8 : decode cX10_sumInRoom 8 = .ok (.iconst 5, 1) := dk_8 (dk_at dksX10_sumInRoom_0 8 rfl rfl)
theorem dX10_sumInRoom_9 : decode cX10_sumInRoom 9 = .ok (.iload_n 1, 1) := dk_27 (dk_at dksX10_sumInRoom_0 9 rfl rfl)
theorem dX10_sumInRoom_10 : decode cX10_sumInRoom 10 = .ok (.iadd, 1) := dk_96 (dk_at dksX10_sumInRoom_0 10 rfl rfl)
theorem dX10_sumInRoom_11 : decode cX10_sumInRoom 11 = .ok (.iload_n 2, 1) := dk_28 (dk_at dksX10_sumInRoom_0 11 rfl rfl)
theorem dX10_sumInRoom_12 : decode cX10_sumInRoom 12 = .ok (.iastore, 1) := dk_79 (dk_at dksX10_sumInRoom_0 12 rfl rfl)
theorem dX10_sumInRoom_13 : decode cX10_sumInRoom 13 = .ok (.aload_n 0, 1) := dk_42 (dk_at dksX10_sumInRoom_0 13 rfl rfl)
theorem dX10_sumInRoom_14 : decode cX10_sumInRoom 14 = .ok (.invokevirtual 473, 3) := dk_182 1 217 (dk_at dksX10_sumInRoom_0 14 rfl rfl)
theorem dX10_sumInRoom_17 : decode cX10_sumInRoom 17 = .ok (.aload_n 0, 1) := dk_42 (dk_at dksX10_sumInRoom_0 17 rfl rfl)
theorem dX10_sumInRoom_18 : decode cX10_sumInRoom 18 = .ok (.iconst 1, 1) := dk_4 (dk_at dksX10_sumInRoom_0 18 rfl rfl)
theorem dX10_sumInRoom_19 : decode cX10_sumInRoom 19 = .ok (.invokevirtual 467, 3) := dk_182 1 211 (dk_at dksX10_sumInRoom_0 19 rfl rfl)
theorem dX10_sumInRoom_22 : decode cX10_sumInRoom 22 = .ok (.ireturn, 1) := dk_172 (dk_at dksX10_sumInRoom_0 22 rfl rfl)
def dkwX10_bestRoom_2 : List UInt8 := [167, 255, 227, 28, 172]
abbrev dktX10_bestRoom_2 : List UInt8 := dkwX10_bestRoom_2 ++ []
def dkwX10_bestRoom_1 : List UInt8 := [42, 27, 29, 182, 1, 223, 42, 27, 28, 182, 1, 223, 164, 0, 7, 29, 167, 0, 4, 28, 61, 132, 3, 1]
abbrev dktX10_bestRoom_1 : List UInt8 := dkwX10_bestRoom_1 ++ dktX10_bestRoom_2
def dkwX10_bestRoom_0 : List UInt8 := [42, 3, 181, 0, 148, 42, 27, 182, 1, 187, 154, 0, 5, 2, 172, 3, 61, 4, 62, 29, 7, 162, 0, 30]
abbrev dktX10_bestRoom_0 : List UInt8 := dkwX10_bestRoom_0 ++ dktX10_bestRoom_1
theorem dksX10_bestRoom_0 : cX10_bestRoom.data.toList.drop 0 = dktX10_bestRoom_0 := by decide +kernel
theorem dksX10_bestRoom_1 : cX10_bestRoom.data.toList.drop 24 = dktX10_bestRoom_1 := dk_seg dksX10_bestRoom_0 24 rfl rfl
theorem dksX10_bestRoom_2 : cX10_bestRoom.data.toList.drop 48 = dktX10_bestRoom_2 := dk_seg dksX10_bestRoom_1 24 rfl rfl
theorem dX10_bestRoom_0 : decode cX10_bestRoom 0 = .ok (.aload_n 0, 1) := dk_42 (dk_at dksX10_bestRoom_0 0 rfl rfl)
theorem dX10_bestRoom_1 : decode cX10_bestRoom 1 = .ok (.iconst 0, 1) := dk_3 (dk_at dksX10_bestRoom_0 1 rfl rfl)
theorem dX10_bestRoom_2 : decode cX10_bestRoom 2 = .ok (.putfield 148, 3) := dk_181 0 148 (dk_at dksX10_bestRoom_0 2 rfl rfl)
theorem dX10_bestRoom_5 : decode cX10_bestRoom 5 = .ok (.aload_n 0, 1) := dk_42 (dk_at dksX10_bestRoom_0 5 rfl rfl)
theorem dX10_bestRoom_6 : decode cX10_bestRoom 6 = .ok (.iload_n 1, 1) := dk_27 (dk_at dksX10_bestRoom_0 6 rfl rfl)
theorem dX10_bestRoom_7 : decode cX10_bestRoom 7 = .ok (.invokevirtual 443, 3) := dk_182 1 187 (dk_at dksX10_bestRoom_0 7 rfl rfl)
theorem dX10_bestRoom_10 : decode cX10_bestRoom 10 = .ok (.ifCond .ne 5, 3) := dk_154 0 5 (dk_at dksX10_bestRoom_0 10 rfl rfl)
theorem dX10_bestRoom_13 : decode cX10_bestRoom 13 = .ok (.iconst (-1), 1) := dk_2 (dk_at dksX10_bestRoom_0 13 rfl rfl)
theorem dX10_bestRoom_14 : decode cX10_bestRoom 14 = .ok (.ireturn, 1) := dk_172 (dk_at dksX10_bestRoom_0 14 rfl rfl)
theorem dX10_bestRoom_15 : decode cX10_bestRoom 15 = .ok (.iconst 0, 1) := dk_3 (dk_at dksX10_bestRoom_0 15 rfl rfl)
theorem dX10_bestRoom_16 : decode cX10_bestRoom 16 = .ok (.istore_n 2, 1) := dk_61 (dk_at dksX10_bestRoom_0 16 rfl rfl)
theorem dX10_bestRoom_17 : decode cX10_bestRoom 17 = .ok (.iconst 1, 1) := dk_4 (dk_at dksX10_bestRoom_0 17 rfl rfl)
theorem dX10_bestRoom_18 : decode cX10_bestRoom 18 = .ok (.istore_n 3, 1) := dk_62 (dk_at dksX10_bestRoom_0 18 rfl rfl)
theorem dX10_bestRoom_19 : decode cX10_bestRoom 19 = .ok (.iload_n 3, 1) := dk_29 (dk_at dksX10_bestRoom_0 19 rfl rfl)
theorem dX10_bestRoom_20 : decode cX10_bestRoom 20 = .ok (.iconst 4, 1) := dk_7 (dk_at dksX10_bestRoom_0 20 rfl rfl)
theorem dX10_bestRoom_21 : decode cX10_bestRoom 21 = .ok (.if_icmp .ge 30, 3) := dk_162 0 30 (dk_at dksX10_bestRoom_0 21 rfl rfl)
theorem dX10_bestRoom_24 : decode cX10_bestRoom 24 = .ok (.aload_n 0, 1) := dk_42 (dk_at dksX10_bestRoom_1 0 rfl rfl)
theorem dX10_bestRoom_25 : decode cX10_bestRoom 25 = .ok (.iload_n 1, 1) := dk_27 (dk_at dksX10_bestRoom_1 1 rfl rfl)
theorem dX10_bestRoom_26 : decode cX10_bestRoom 26 = .ok (.iload_n 3, 1) := dk_29 (dk_at dksX10_bestRoom_1 2 rfl rfl)
theorem dX10_bestRoom_27 : decode cX10_bestRoom 27 = .ok (.invokevirtual 479, 3) := dk_182 1 223 (dk_at dksX10_bestRoom_1 3 rfl rfl)
theorem dX10_bestRoom_30 : decode cX10_bestRoom 30 = .ok (.aload_n 0, 1) := dk_42 (dk_at dksX10_bestRoom_1 6 rfl rfl)
theorem dX10_bestRoom_31 : decode cX10_bestRoom 31 = .ok (.iload_n 1, 1) := dk_27 (dk_at dksX10_bestRoom_1 7 rfl rfl)
theorem dX10_bestRoom_32 : decode cX10_bestRoom 32 = .ok (.iload_n 2, 1) := dk_28 (dk_at dksX10_bestRoom_1 8 rfl rfl)
theorem dX10_bestRoom_33 : decode cX10_bestRoom 33 = .ok (.invokevirtual 479, 3) := dk_182 1 223 (dk_at dksX10_bestRoom_1 9 rfl rfl)
theorem dX10_bestRoom_36 : decode cX10_bestRoom 36 = .ok (.if_icmp .le 7, 3) := dk_164 0 7 (dk_at dksX10_bestRoom_1 12 rfl rfl)
theorem dX10_bestRoom_39 : decode cX10_bestRoom 39 = .ok (.iload_n 3, 1) := dk_29 (dk_at dksX10_bestRoom_1 15 rfl rfl)
theorem dX10_bestRoom_40 : decode cX10_bestRoom 40 = .ok (.goto 4, 3) := dk_167 0 4 (dk_at dksX10_bestRoom_1 16 rfl rfl)
theorem dX10_bestRoom_43 : decode cX10_bestRoom 43 = .ok (.iload_n 2, 1) := dk_28 (dk_at dksX10_bestRoom_1 19 rfl rfl)
theorem dX10_bestRoom_44 : decode cX10_bestRoom 44 = .ok (.istore_n 2, 1) := dk_61 (dk_at dksX10_bestRoom_1 20 rfl rfl)
theorem dX10_bestRoom_45 : decode cX10_bestRoom 45 = .ok (.iinc 3 1, 3) := dk_132 3 1 (dk_at dksX10_bestRoom_1 21 rfl rfl)
theorem dX10_bestRoom_48 : decode cX10_bestRoom 48 = .ok (.goto (-29), 3) := dk_167 255 227 (dk_at dksX10_bestRoom_2 0 rfl rfl)
theorem dX10_bestRoom_51 : decode cX10_bestRoom 51 = .ok (.iload_n 2, 1) := dk_28 (dk_at dksX10_bestRoom_2 3 rfl rfl)
theorem dX10_bestRoom_52 : decode cX10_bestRoom 52 = .ok (.ireturn, 1) := dk_172 (dk_at dksX10_bestRoom_2 4 rfl rfl)
def dkwX10_way_1 : List UInt8 := [182, 1, 247, 167, 0, 4, 2, 172]
abbrev dktX10_way_1 : List UInt8 := dkwX10_way_1 ++ []
def dkwX10_way_0 : List UInt8 := [42, 3, 181, 0, 148, 42, 27, 28, 29, 21, 4, 182, 1, 244, 153, 0, 15, 42, 27, 28, 29, 21, 4]
abbrev dktX10_way_0 : List UInt8 := dkwX10_way_0 ++ dktX10_way_1
theorem dksX10_way_0 : cX10_way.data.toList.drop 0 = dktX10_way_0 := by decide +kernel
theorem dksX10_way_1 : cX10_way.data.toList.drop 23 = dktX10_way_1 := dk_seg dksX10_way_0 23 rfl rfl
theorem dX10_way_0 : decode cX10_way 0 = .ok (.aload_n 0, 1) := dk_42 (dk_at dksX10_way_0 0 rfl rfl)
theorem dX10_way_1 : decode cX10_way 1 = .ok (.iconst 0, 1) := dk_3 (dk_at dksX10_way_0 1 rfl rfl)
theorem dX10_way_2 : decode cX10_way 2 = .ok (.putfield 148, 3) := dk_181 0 148 (dk_at dksX10_way_0 2 rfl rfl)
theorem dX10_way_5 : decode cX10_way 5 = .ok (.aload_n 0, 1) := dk_42 (dk_at dksX10_way_0 5 rfl rfl)
theorem dX10_way_6 : decode cX10_way 6 = .ok (.iload_n 1, 1) := dk_27 (dk_at dksX10_way_0 6 rfl rfl)
theorem dX10_way_7 : decode cX10_way 7 = .ok (.iload_n 2, 1) := dk_28 (dk_at dksX10_way_0 7 rfl rfl)
theorem dX10_way_8 : decode cX10_way 8 = .ok (.iload_n 3, 1) := dk_29 (dk_at dksX10_way_0 8 rfl rfl)
theorem dX10_way_9 : decode cX10_way 9 = .ok (.iload 4, 2) := dk_21 4 (dk_at dksX10_way_0 9 rfl rfl)
theorem dX10_way_11 : decode cX10_way 11 = .ok (.invokevirtual 500, 3) := dk_182 1 244 (dk_at dksX10_way_0 11 rfl rfl)
theorem dX10_way_14 : decode cX10_way 14 = .ok (.ifCond .eq 15, 3) := dk_153 0 15 (dk_at dksX10_way_0 14 rfl rfl)
theorem dX10_way_17 : decode cX10_way 17 = .ok (.aload_n 0, 1) := dk_42 (dk_at dksX10_way_0 17 rfl rfl)
theorem dX10_way_18 : decode cX10_way 18 = .ok (.iload_n 1, 1) := dk_27 (dk_at dksX10_way_0 18 rfl rfl)
theorem dX10_way_19 : decode cX10_way 19 = .ok (.iload_n 2, 1) := dk_28 (dk_at dksX10_way_0 19 rfl rfl)
theorem dX10_way_20 : decode cX10_way 20 = .ok (.iload_n 3, 1) := dk_29 (dk_at dksX10_way_0 20 rfl rfl)
theorem dX10_way_21 : decode cX10_way 21 = .ok (.iload 4, 2) := dk_21 4 (dk_at dksX10_way_0 21 rfl rfl)
theorem dX10_way_23 : decode cX10_way 23 = .ok (.invokevirtual 503, 3) := dk_182 1 247 (dk_at dksX10_way_1 0 rfl rfl)
theorem dX10_way_26 : decode cX10_way 26 = .ok (.goto 4, 3) := dk_167 0 4 (dk_at dksX10_way_1 3 rfl rfl)
theorem dX10_way_29 : decode cX10_way 29 = .ok (.iconst (-1), 1) := dk_2 (dk_at dksX10_way_1 6 rfl rfl)
theorem dX10_way_30 : decode cX10_way 30 = .ok (.ireturn, 1) := dk_172 (dk_at dksX10_way_1 7 rfl rfl)
def dkwX10_isAsked_2 : List UInt8 := [153, 0, 7, 4, 167, 0, 4, 3, 172]
abbrev dktX10_isAsked_2 : List UInt8 := dkwX10_isAsked_2 ++ []
def dkwX10_isAsked_1 : List UInt8 := [180, 0, 231, 122, 154, 0, 25, 29, 27, 184, 1, 8, 154, 0, 17, 21, 4, 4, 5, 184, 0, 193]
abbrev dktX10_isAsked_1 : List UInt8 := dkwX10_isAsked_1 ++ dktX10_isAsked_2
def dkwX10_isAsked_0 : List UInt8 := [42, 27, 182, 1, 187, 153, 0, 46, 42, 28, 182, 1, 208, 153, 0, 38, 29, 155, 0, 34, 29, 42]
abbrev dktX10_isAsked_0 : List UInt8 := dkwX10_isAsked_0 ++ dktX10_isAsked_1
theorem dksX10_isAsked_0 : cX10_isAsked.data.toList.drop 0 = dktX10_isAsked_0 := by decide +kernel
theorem dksX10_isAsked_1 : cX10_isAsked.data.toList.drop 22 = dktX10_isAsked_1 := dk_seg dksX10_isAsked_0 22 rfl rfl
theorem dksX10_isAsked_2 : cX10_isAsked.data.toList.drop 44 = dktX10_isAsked_2 := dk_seg dksX10_isAsked_1 22 rfl rfl
theorem dX10_isAsked_0 : decode cX10_isAsked 0 = .ok (.aload_n 0, 1) := dk_42 (dk_at dksX10_isAsked_0 0 rfl rfl)
theorem dX10_isAsked_1 : decode cX10_isAsked 1 = .ok (.iload_n 1, 1) := dk_27 (dk_at dksX10_isAsked_0 1 rfl rfl)
theorem dX10_isAsked_2 : decode cX10_isAsked 2 = .ok (.invokevirtual 443, 3) := dk_182 1 187 (dk_at dksX10_isAsked_0 2 rfl rfl)
theorem dX10_isAsked_5 : decode cX10_isAsked 5 = .ok (.ifCond .eq 46, 3) := dk_153 0 46 (dk_at dksX10_isAsked_0 5 rfl rfl)
theorem dX10_isAsked_8 : decode cX10_isAsked 8 = .ok (.aload_n 0, 1) := dk_42 (dk_at dksX10_isAsked_0 8 rfl rfl)
theorem dX10_isAsked_9 : decode cX10_isAsked 9 = .ok (.iload_n 2, 1) := dk_28 (dk_at dksX10_isAsked_0 9 rfl rfl)
theorem dX10_isAsked_10 : decode cX10_isAsked 10 = .ok (.invokevirtual 464, 3) := dk_182 1 208 (dk_at dksX10_isAsked_0 10 rfl rfl)
theorem dX10_isAsked_13 : decode cX10_isAsked 13 = .ok (.ifCond .eq 38, 3) := dk_153 0 38 (dk_at dksX10_isAsked_0 13 rfl rfl)
theorem dX10_isAsked_16 : decode cX10_isAsked 16 = .ok (.iload_n 3, 1) := dk_29 (dk_at dksX10_isAsked_0 16 rfl rfl)
theorem dX10_isAsked_17 : decode cX10_isAsked 17 = .ok (.ifCond .lt 34, 3) := dk_155 0 34 (dk_at dksX10_isAsked_0 17 rfl rfl)
theorem dX10_isAsked_20 : decode cX10_isAsked 20 = .ok (.iload_n 3, 1) := dk_29 (dk_at dksX10_isAsked_0 20 rfl rfl)
theorem dX10_isAsked_21 : decode cX10_isAsked 21 = .ok (.aload_n 0, 1) := dk_42 (dk_at dksX10_isAsked_0 21 rfl rfl)
theorem dX10_isAsked_22 : decode cX10_isAsked 22 = .ok (.getfield 231, 3) := dk_180 0 231 (dk_at dksX10_isAsked_1 0 rfl rfl)
theorem dX10_isAsked_25 : decode cX10_isAsked 25 = .ok (.ishr, 1) := dk_122 (dk_at dksX10_isAsked_1 3 rfl rfl)
theorem dX10_isAsked_26 : decode cX10_isAsked 26 = .ok (.ifCond .ne 25, 3) := dk_154 0 25 (dk_at dksX10_isAsked_1 4 rfl rfl)
theorem dX10_isAsked_29 : decode cX10_isAsked 29 = .ok (.iload_n 3, 1) := dk_29 (dk_at dksX10_isAsked_1 7 rfl rfl)
theorem dX10_isAsked_30 : decode cX10_isAsked 30 = .ok (.iload_n 1, 1) := dk_27 (dk_at dksX10_isAsked_1 8 rfl rfl)
theorem dX10_isAsked_31 : decode cX10_isAsked 31 = .ok (.invokestatic 264, 3) := dk_184 1 8 (dk_at dksX10_isAsked_1 9 rfl rfl)
theorem dX10_isAsked_34 : decode cX10_isAsked 34 = .ok (.ifCond .ne 17, 3) := dk_154 0 17 (dk_at dksX10_isAsked_1 12 rfl rfl)
theorem dX10_isAsked_37 : decode cX10_isAsked 37 = .ok (.iload 4, 2) := dk_21 4 (dk_at dksX10_isAsked_1 15 rfl rfl)
theorem dX10_isAsked_39 : decode cX10_isAsked 39 = .ok (.iconst 1, 1) := dk_4 (dk_at dksX10_isAsked_1 17 rfl rfl)
theorem dX10_isAsked_40 : decode cX10_isAsked 40 = .ok (.iconst 2, 1) := dk_5 (dk_at dksX10_isAsked_1 18 rfl rfl)
theorem dX10_isAsked_41 : decode cX10_isAsked 41 = .ok (.invokestatic 193, 3) := dk_184 0 193 (dk_at dksX10_isAsked_1 19 rfl rfl)
theorem dX10_isAsked_44 : decode cX10_isAsked 44 = .ok (.ifCond .eq 7, 3) := dk_153 0 7 (dk_at dksX10_isAsked_2 0 rfl rfl)
theorem dX10_isAsked_47 : decode cX10_isAsked 47 = .ok (.iconst 1, 1) := dk_4 (dk_at dksX10_isAsked_2 3 rfl rfl)
theorem dX10_isAsked_48 : decode cX10_isAsked 48 = .ok (.goto 4, 3) := dk_167 0 4 (dk_at dksX10_isAsked_2 4 rfl rfl)
theorem dX10_isAsked_51 : decode cX10_isAsked 51 = .ok (.iconst 0, 1) := dk_3 (dk_at dksX10_isAsked_2 7 rfl rfl)
theorem dX10_isAsked_52 : decode cX10_isAsked 52 = .ok (.ireturn, 1) := dk_172 (dk_at dksX10_isAsked_2 8 rfl rfl)
def dkwX10_wayOf_7 : List UInt8 := [29, 182, 1, 241, 153, 0, 5, 5, 172, 132, 6, 1, 167, 255, 182, 132, 5, 1, 167, 255, 142, 16, 254, 172]
abbrev dktX10_wayOf_7 : List UInt8 := dkwX10_wayOf_7 ++ []
def dkwX10_wayOf_6 : List UInt8 := [42, 180, 0, 115, 3, 21, 5, 79, 42, 180, 0, 115, 4, 21, 6, 79, 21, 7, 153, 0, 15, 42, 27, 28]
abbrev dktX10_wayOf_6 : List UInt8 := dkwX10_wayOf_6 ++ dktX10_wayOf_7
def dkwX10_wayOf_5 : List UInt8 := [21, 5, 182, 1, 238, 153, 0, 16, 42, 21, 6, 182, 1, 238, 153, 0, 7, 4, 167, 0, 4, 3, 54, 7]
abbrev dktX10_wayOf_5 : List UInt8 := dkwX10_wayOf_5 ++ dktX10_wayOf_6
def dkwX10_wayOf_4 : List UInt8 := [154, 0, 6, 167, 0, 83, 3, 54, 6, 21, 6, 42, 182, 1, 235, 162, 0, 71, 42, 182, 1, 214, 42]
abbrev dktX10_wayOf_4 : List UInt8 := dkwX10_wayOf_4 ++ dktX10_wayOf_5
def dkwX10_wayOf_3 : List UInt8 := [182, 1, 235, 162, 0, 111, 21, 4, 5, 160, 0, 105, 42, 182, 1, 214, 42, 21, 5, 182, 1, 238]
abbrev dktX10_wayOf_3 : List UInt8 := dkwX10_wayOf_3 ++ dktX10_wayOf_4
def dkwX10_wayOf_2 : List UInt8 := [42, 27, 28, 29, 182, 1, 241, 153, 0, 5, 4, 172, 132, 5, 1, 167, 255, 211, 3, 54, 5, 21, 5, 42]
abbrev dktX10_wayOf_2 : List UInt8 := dkwX10_wayOf_2 ++ dktX10_wayOf_3
def dkwX10_wayOf_1 : List UInt8 := [162, 0, 42, 42, 182, 1, 214, 42, 180, 0, 115, 3, 21, 5, 79, 42, 21, 5, 182, 1, 238, 153, 0, 15]
abbrev dktX10_wayOf_1 : List UInt8 := dkwX10_wayOf_1 ++ dktX10_wayOf_2
def dkwX10_wayOf_0 : List UInt8 := [42, 180, 0, 100, 27, 46, 28, 184, 1, 8, 153, 0, 5, 3, 172, 3, 54, 5, 21, 5, 42, 182, 1, 235]
abbrev dktX10_wayOf_0 : List UInt8 := dkwX10_wayOf_0 ++ dktX10_wayOf_1
theorem dksX10_wayOf_0 : cX10_wayOf.data.toList.drop 0 = dktX10_wayOf_0 := by decide +kernel
theorem dksX10_wayOf_1 : cX10_wayOf.data.toList.drop 24 = dktX10_wayOf_1 := dk_seg dksX10_wayOf_0 24 rfl rfl
theorem dksX10_wayOf_2 : cX10_wayOf.data.toList.drop 48 = dktX10_wayOf_2 := dk_seg dksX10_wayOf_1 24 rfl rfl
theorem dksX10_wayOf_3 : cX10_wayOf.data.toList.drop 72 = dktX10_wayOf_3 := dk_seg dksX10_wayOf_2 24 rfl rfl
theorem dksX10_wayOf_4 : cX10_wayOf.data.toList.drop 94 = dktX10_wayOf_4 := dk_seg dksX10_wayOf_3 22 rfl rfl
theorem dksX10_wayOf_5 : cX10_wayOf.data.toList.drop 117 = dktX10_wayOf_5 := dk_seg dksX10_wayOf_4 23 rfl rfl
theorem dksX10_wayOf_6 : cX10_wayOf.data.toList.drop 141 = dktX10_wayOf_6 := dk_seg dksX10_wayOf_5 24 rfl rfl
theorem dksX10_wayOf_7 : cX10_wayOf.data.toList.drop 165 = dktX10_wayOf_7 := dk_seg dksX10_wayOf_6 24 rfl rfl
theorem dX10_wayOf_0 : decode cX10_wayOf 0 = .ok (.aload_n 0, 1) := dk_42 (dk_at dksX10_wayOf_0 0 rfl rfl)
theorem dX10_wayOf_1 : decode cX10_wayOf 1 = .ok (.getfield 100, 3) := dk_180 0 100 (dk_at dksX10_wayOf_0 1 rfl rfl)
theorem dX10_wayOf_4 : decode cX10_wayOf 4 = .ok (.iload_n 1, 1) := dk_27 (dk_at dksX10_wayOf_0 4 rfl rfl)
theorem dX10_wayOf_5 : decode cX10_wayOf 5 = .ok (.iaload, 1) := dk_46 (dk_at dksX10_wayOf_0 5 rfl rfl)
theorem dX10_wayOf_6 : decode cX10_wayOf 6 = .ok (.iload_n 2, 1) := dk_28 (dk_at dksX10_wayOf_0 6 rfl rfl)
theorem dX10_wayOf_7 : decode cX10_wayOf 7 = .ok (.invokestatic 264, 3) := dk_184 1 8 (dk_at dksX10_wayOf_0 7 rfl rfl)
theorem dX10_wayOf_10 : decode cX10_wayOf 10 = .ok (.ifCond .eq 5, 3) := dk_153 0 5 (dk_at dksX10_wayOf_0 10 rfl rfl)
theorem dX10_wayOf_13 : decode cX10_wayOf 13 = .ok (.iconst 0, 1) := dk_3 (dk_at dksX10_wayOf_0 13 rfl rfl)
theorem dX10_wayOf_14 : decode cX10_wayOf 14 = .ok (.ireturn, 1) := dk_172 (dk_at dksX10_wayOf_0 14 rfl rfl)
theorem dX10_wayOf_15 : decode cX10_wayOf 15 = .ok (.iconst 0, 1) := dk_3 (dk_at dksX10_wayOf_0 15 rfl rfl)
theorem dX10_wayOf_16 : decode cX10_wayOf 16 = .ok (.istore 5, 2) := dk_54 5 (dk_at dksX10_wayOf_0 16 rfl rfl)
theorem dX10_wayOf_18 : decode cX10_wayOf 18 = .ok (.iload 5, 2) := dk_21 5 (dk_at dksX10_wayOf_0 18 rfl rfl)
theorem dX10_wayOf_20 : decode cX10_wayOf 20 = .ok (.aload_n 0, 1) := dk_42 (dk_at dksX10_wayOf_0 20 rfl rfl)
theorem dX10_wayOf_21 : decode cX10_wayOf 21 = .ok (.invokevirtual 491, 3) := dk_182 1 235 (dk_at dksX10_wayOf_0 21 rfl rfl)
theorem dX10_wayOf_24 : decode cX10_wayOf 24 = .ok (.if_icmp .ge 42, 3) := dk_162 0 42 (dk_at dksX10_wayOf_1 0 rfl rfl)
theorem dX10_wayOf_27 : decode cX10_wayOf 27 = .ok (.aload_n 0, 1) := dk_42 (dk_at dksX10_wayOf_1 3 rfl rfl)
theorem dX10_wayOf_28 : decode cX10_wayOf 28 = .ok (.invokevirtual 470, 3) := dk_182 1 214 (dk_at dksX10_wayOf_1 4 rfl rfl)
theorem dX10_wayOf_31 : decode cX10_wayOf 31 = .ok (.aload_n 0, 1) := dk_42 (dk_at dksX10_wayOf_1 7 rfl rfl)
theorem dX10_wayOf_32 : decode cX10_wayOf 32 = .ok (.getfield 115, 3) := dk_180 0 115 (dk_at dksX10_wayOf_1 8 rfl rfl)
theorem dX10_wayOf_35 : decode cX10_wayOf 35 = .ok (.iconst 0, 1) := dk_3 (dk_at dksX10_wayOf_1 11 rfl rfl)
theorem dX10_wayOf_36 : decode cX10_wayOf 36 = .ok (.iload 5, 2) := dk_21 5 (dk_at dksX10_wayOf_1 12 rfl rfl)
theorem dX10_wayOf_38 : decode cX10_wayOf 38 = .ok (.iastore, 1) := dk_79 (dk_at dksX10_wayOf_1 14 rfl rfl)
theorem dX10_wayOf_39 : decode cX10_wayOf 39 = .ok (.aload_n 0, 1) := dk_42 (dk_at dksX10_wayOf_1 15 rfl rfl)
theorem dX10_wayOf_40 : decode cX10_wayOf 40 = .ok (.iload 5, 2) := dk_21 5 (dk_at dksX10_wayOf_1 16 rfl rfl)
theorem dX10_wayOf_42 : decode cX10_wayOf 42 = .ok (.invokevirtual 494, 3) := dk_182 1 238 (dk_at dksX10_wayOf_1 18 rfl rfl)
theorem dX10_wayOf_45 : decode cX10_wayOf 45 = .ok (.ifCond .eq 15, 3) := dk_153 0 15 (dk_at dksX10_wayOf_1 21 rfl rfl)
theorem dX10_wayOf_48 : decode cX10_wayOf 48 = .ok (.aload_n 0, 1) := dk_42 (dk_at dksX10_wayOf_2 0 rfl rfl)
theorem dX10_wayOf_49 : decode cX10_wayOf 49 = .ok (.iload_n 1, 1) := dk_27 (dk_at dksX10_wayOf_2 1 rfl rfl)
theorem dX10_wayOf_50 : decode cX10_wayOf 50 = .ok (.iload_n 2, 1) := dk_28 (dk_at dksX10_wayOf_2 2 rfl rfl)
theorem dX10_wayOf_51 : decode cX10_wayOf 51 = .ok (.iload_n 3, 1) := dk_29 (dk_at dksX10_wayOf_2 3 rfl rfl)
theorem dX10_wayOf_52 : decode cX10_wayOf 52 = .ok (.invokevirtual 497, 3) := dk_182 1 241 (dk_at dksX10_wayOf_2 4 rfl rfl)
theorem dX10_wayOf_55 : decode cX10_wayOf 55 = .ok (.ifCond .eq 5, 3) := dk_153 0 5 (dk_at dksX10_wayOf_2 7 rfl rfl)
theorem dX10_wayOf_58 : decode cX10_wayOf 58 = .ok (.iconst 1, 1) := dk_4 (dk_at dksX10_wayOf_2 10 rfl rfl)
theorem dX10_wayOf_59 : decode cX10_wayOf 59 = .ok (.ireturn, 1) := dk_172 (dk_at dksX10_wayOf_2 11 rfl rfl)
theorem dX10_wayOf_60 : decode cX10_wayOf 60 = .ok (.iinc 5 1, 3) := dk_132 5 1 (dk_at dksX10_wayOf_2 12 rfl rfl)
theorem dX10_wayOf_63 : decode cX10_wayOf 63 = .ok (.goto (-45), 3) := dk_167 255 211 (dk_at dksX10_wayOf_2 15 rfl rfl)
theorem dX10_wayOf_66 : decode cX10_wayOf 66 = .ok (.iconst 0, 1) := dk_3 (dk_at dksX10_wayOf_2 18 rfl rfl)
theorem dX10_wayOf_67 : decode cX10_wayOf 67 = .ok (.istore 5, 2) := dk_54 5 (dk_at dksX10_wayOf_2 19 rfl rfl)
theorem dX10_wayOf_69 : decode cX10_wayOf 69 = .ok (.iload 5, 2) := dk_21 5 (dk_at dksX10_wayOf_2 21 rfl rfl)
theorem dX10_wayOf_71 : decode cX10_wayOf 71 = .ok (.aload_n 0, 1) := dk_42 (dk_at dksX10_wayOf_2 23 rfl rfl)
theorem dX10_wayOf_72 : decode cX10_wayOf 72 = .ok (.invokevirtual 491, 3) := dk_182 1 235 (dk_at dksX10_wayOf_3 0 rfl rfl)
theorem dX10_wayOf_75 : decode cX10_wayOf 75 = .ok (.if_icmp .ge 111, 3) := dk_162 0 111 (dk_at dksX10_wayOf_3 3 rfl rfl)
theorem dX10_wayOf_78 : decode cX10_wayOf 78 = .ok (.iload 4, 2) := dk_21 4 (dk_at dksX10_wayOf_3 6 rfl rfl)
theorem dX10_wayOf_80 : decode cX10_wayOf 80 = .ok (.iconst 2, 1) := dk_5 (dk_at dksX10_wayOf_3 8 rfl rfl)
theorem dX10_wayOf_81 : decode cX10_wayOf 81 = .ok (.if_icmp .ne 105, 3) := dk_160 0 105 (dk_at dksX10_wayOf_3 9 rfl rfl)
theorem dX10_wayOf_84 : decode cX10_wayOf 84 = .ok (.aload_n 0, 1) := dk_42 (dk_at dksX10_wayOf_3 12 rfl rfl)
theorem dX10_wayOf_85 : decode cX10_wayOf 85 = .ok (.invokevirtual 470, 3) := dk_182 1 214 (dk_at dksX10_wayOf_3 13 rfl rfl)
theorem dX10_wayOf_88 : decode cX10_wayOf 88 = .ok (.aload_n 0, 1) := dk_42 (dk_at dksX10_wayOf_3 16 rfl rfl)
theorem dX10_wayOf_89 : decode cX10_wayOf 89 = .ok (.iload 5, 2) := dk_21 5 (dk_at dksX10_wayOf_3 17 rfl rfl)
theorem dX10_wayOf_91 : decode cX10_wayOf 91 = .ok (.invokevirtual 494, 3) := dk_182 1 238 (dk_at dksX10_wayOf_3 19 rfl rfl)
theorem dX10_wayOf_94 : decode cX10_wayOf 94 = .ok (.ifCond .ne 6, 3) := dk_154 0 6 (dk_at dksX10_wayOf_4 0 rfl rfl)
theorem dX10_wayOf_97 : decode cX10_wayOf 97 = .ok (.goto 83, 3) := dk_167 0 83 (dk_at dksX10_wayOf_4 3 rfl rfl)
theorem dX10_wayOf_100 : decode cX10_wayOf 100 = .ok (.iconst 0, 1) := dk_3 (dk_at dksX10_wayOf_4 6 rfl rfl)
theorem dX10_wayOf_101 : decode cX10_wayOf 101 = .ok (.istore 6, 2) := dk_54 6 (dk_at dksX10_wayOf_4 7 rfl rfl)
theorem dX10_wayOf_103 : decode cX10_wayOf 103 = .ok (.iload 6, 2) := dk_21 6 (dk_at dksX10_wayOf_4 9 rfl rfl)
theorem dX10_wayOf_105 : decode cX10_wayOf 105 = .ok (.aload_n 0, 1) := dk_42 (dk_at dksX10_wayOf_4 11 rfl rfl)
theorem dX10_wayOf_106 : decode cX10_wayOf 106 = .ok (.invokevirtual 491, 3) := dk_182 1 235 (dk_at dksX10_wayOf_4 12 rfl rfl)
theorem dX10_wayOf_109 : decode cX10_wayOf 109 = .ok (.if_icmp .ge 71, 3) := dk_162 0 71 (dk_at dksX10_wayOf_4 15 rfl rfl)
theorem dX10_wayOf_112 : decode cX10_wayOf 112 = .ok (.aload_n 0, 1) := dk_42 (dk_at dksX10_wayOf_4 18 rfl rfl)
theorem dX10_wayOf_113 : decode cX10_wayOf 113 = .ok (.invokevirtual 470, 3) := dk_182 1 214 (dk_at dksX10_wayOf_4 19 rfl rfl)
theorem dX10_wayOf_116 : decode cX10_wayOf 116 = .ok (.aload_n 0, 1) := dk_42 (dk_at dksX10_wayOf_4 22 rfl rfl)
theorem dX10_wayOf_117 : decode cX10_wayOf 117 = .ok (.iload 5, 2) := dk_21 5 (dk_at dksX10_wayOf_5 0 rfl rfl)
theorem dX10_wayOf_119 : decode cX10_wayOf 119 = .ok (.invokevirtual 494, 3) := dk_182 1 238 (dk_at dksX10_wayOf_5 2 rfl rfl)
theorem dX10_wayOf_122 : decode cX10_wayOf 122 = .ok (.ifCond .eq 16, 3) := dk_153 0 16 (dk_at dksX10_wayOf_5 5 rfl rfl)
theorem dX10_wayOf_125 : decode cX10_wayOf 125 = .ok (.aload_n 0, 1) := dk_42 (dk_at dksX10_wayOf_5 8 rfl rfl)
theorem dX10_wayOf_126 : decode cX10_wayOf 126 = .ok (.iload 6, 2) := dk_21 6 (dk_at dksX10_wayOf_5 9 rfl rfl)
theorem dX10_wayOf_128 : decode cX10_wayOf 128 = .ok (.invokevirtual 494, 3) := dk_182 1 238 (dk_at dksX10_wayOf_5 11 rfl rfl)
theorem dX10_wayOf_131 : decode cX10_wayOf 131 = .ok (.ifCond .eq 7, 3) := dk_153 0 7 (dk_at dksX10_wayOf_5 14 rfl rfl)
theorem dX10_wayOf_134 : decode cX10_wayOf 134 = .ok (.iconst 1, 1) := dk_4 (dk_at dksX10_wayOf_5 17 rfl rfl)
theorem dX10_wayOf_135 : decode cX10_wayOf 135 = .ok (.goto 4, 3) := dk_167 0 4 (dk_at dksX10_wayOf_5 18 rfl rfl)
theorem dX10_wayOf_138 : decode cX10_wayOf 138 = .ok (.iconst 0, 1) := dk_3 (dk_at dksX10_wayOf_5 21 rfl rfl)
theorem dX10_wayOf_139 : decode cX10_wayOf 139 = .ok (.istore 7, 2) := dk_54 7 (dk_at dksX10_wayOf_5 22 rfl rfl)
theorem dX10_wayOf_141 : decode cX10_wayOf 141 = .ok (.aload_n 0, 1) := dk_42 (dk_at dksX10_wayOf_6 0 rfl rfl)
theorem dX10_wayOf_142 : decode cX10_wayOf 142 = .ok (.getfield 115, 3) := dk_180 0 115 (dk_at dksX10_wayOf_6 1 rfl rfl)
theorem dX10_wayOf_145 : decode cX10_wayOf 145 = .ok (.iconst 0, 1) := dk_3 (dk_at dksX10_wayOf_6 4 rfl rfl)
theorem dX10_wayOf_146 : decode cX10_wayOf 146 = .ok (.iload 5, 2) := dk_21 5 (dk_at dksX10_wayOf_6 5 rfl rfl)
theorem dX10_wayOf_148 : decode cX10_wayOf 148 = .ok (.iastore, 1) := dk_79 (dk_at dksX10_wayOf_6 7 rfl rfl)
theorem dX10_wayOf_149 : decode cX10_wayOf 149 = .ok (.aload_n 0, 1) := dk_42 (dk_at dksX10_wayOf_6 8 rfl rfl)
theorem dX10_wayOf_150 : decode cX10_wayOf 150 = .ok (.getfield 115, 3) := dk_180 0 115 (dk_at dksX10_wayOf_6 9 rfl rfl)
theorem dX10_wayOf_153 : decode cX10_wayOf 153 = .ok (.iconst 1, 1) := dk_4 (dk_at dksX10_wayOf_6 12 rfl rfl)
theorem dX10_wayOf_154 : decode cX10_wayOf 154 = .ok (.iload 6, 2) := dk_21 6 (dk_at dksX10_wayOf_6 13 rfl rfl)
theorem dX10_wayOf_156 : decode cX10_wayOf 156 = .ok (.iastore, 1) := dk_79 (dk_at dksX10_wayOf_6 15 rfl rfl)
theorem dX10_wayOf_157 : decode cX10_wayOf 157 = .ok (.iload 7, 2) := dk_21 7 (dk_at dksX10_wayOf_6 16 rfl rfl)
theorem dX10_wayOf_159 : decode cX10_wayOf 159 = .ok (.ifCond .eq 15, 3) := dk_153 0 15 (dk_at dksX10_wayOf_6 18 rfl rfl)
theorem dX10_wayOf_162 : decode cX10_wayOf 162 = .ok (.aload_n 0, 1) := dk_42 (dk_at dksX10_wayOf_6 21 rfl rfl)
theorem dX10_wayOf_163 : decode cX10_wayOf 163 = .ok (.iload_n 1, 1) := dk_27 (dk_at dksX10_wayOf_6 22 rfl rfl)
theorem dX10_wayOf_164 : decode cX10_wayOf 164 = .ok (.iload_n 2, 1) := dk_28 (dk_at dksX10_wayOf_6 23 rfl rfl)
theorem dX10_wayOf_165 : decode cX10_wayOf 165 = .ok (.iload_n 3, 1) := dk_29 (dk_at dksX10_wayOf_7 0 rfl rfl)
theorem dX10_wayOf_166 : decode cX10_wayOf 166 = .ok (.invokevirtual 497, 3) := dk_182 1 241 (dk_at dksX10_wayOf_7 1 rfl rfl)
theorem dX10_wayOf_169 : decode cX10_wayOf 169 = .ok (.ifCond .eq 5, 3) := dk_153 0 5 (dk_at dksX10_wayOf_7 4 rfl rfl)
theorem dX10_wayOf_172 : decode cX10_wayOf 172 = .ok (.iconst 2, 1) := dk_5 (dk_at dksX10_wayOf_7 7 rfl rfl)
theorem dX10_wayOf_173 : decode cX10_wayOf 173 = .ok (.ireturn, 1) := dk_172 (dk_at dksX10_wayOf_7 8 rfl rfl)
theorem dX10_wayOf_174 : decode cX10_wayOf 174 = .ok (.iinc 6 1, 3) := dk_132 6 1 (dk_at dksX10_wayOf_7 9 rfl rfl)
theorem dX10_wayOf_177 : decode cX10_wayOf 177 = .ok (.goto (-74), 3) := dk_167 255 182 (dk_at dksX10_wayOf_7 12 rfl rfl)
theorem dX10_wayOf_180 : decode cX10_wayOf 180 = .ok (.iinc 5 1, 3) := dk_132 5 1 (dk_at dksX10_wayOf_7 15 rfl rfl)
theorem dX10_wayOf_183 : decode cX10_wayOf 183 = .ok (.goto (-114), 3) := dk_167 255 142 (dk_at dksX10_wayOf_7 18 rfl rfl)
theorem dX10_wayOf_186 : decode cX10_wayOf 186 = .ok (.bipush (-2), 2) := dk_16 254 (dk_at dksX10_wayOf_7 21 rfl rfl)
theorem dX10_wayOf_188 : decode cX10_wayOf 188 = .ok (.ireturn, 1) := dk_172 (dk_at dksX10_wayOf_7 23 rfl rfl)
def dkwX10_steps_0 : List UInt8 := [42, 180, 0, 231, 42, 180, 0, 231, 104, 42, 180, 0, 234, 104, 172]
abbrev dktX10_steps_0 : List UInt8 := dkwX10_steps_0 ++ []
theorem dksX10_steps_0 : cX10_steps.data.toList.drop 0 = dktX10_steps_0 := by decide +kernel
theorem dX10_steps_0 : decode cX10_steps 0 = .ok (.aload_n 0, 1) := dk_42 (dk_at dksX10_steps_0 0 rfl rfl)
theorem dX10_steps_1 : decode cX10_steps 1 = .ok (.getfield 231, 3) := dk_180 0 231 (dk_at dksX10_steps_0 1 rfl rfl)
theorem dX10_steps_4 : decode cX10_steps 4 = .ok (.aload_n 0, 1) := dk_42 (dk_at dksX10_steps_0 4 rfl rfl)
theorem dX10_steps_5 : decode cX10_steps 5 = .ok (.getfield 231, 3) := dk_180 0 231 (dk_at dksX10_steps_0 5 rfl rfl)
theorem dX10_steps_8 : decode cX10_steps 8 = .ok (.imul, 1) := dk_104 (dk_at dksX10_steps_0 8 rfl rfl)
theorem dX10_steps_9 : decode cX10_steps 9 = .ok (.aload_n 0, 1) := dk_42 (dk_at dksX10_steps_0 9 rfl rfl)
theorem dX10_steps_10 : decode cX10_steps 10 = .ok (.getfield 234, 3) := dk_180 0 234 (dk_at dksX10_steps_0 10 rfl rfl)
theorem dX10_steps_13 : decode cX10_steps 13 = .ok (.imul, 1) := dk_104 (dk_at dksX10_steps_0 13 rfl rfl)
theorem dX10_steps_14 : decode cX10_steps 14 = .ok (.ireturn, 1) := dk_172 (dk_at dksX10_steps_0 14 rfl rfl)
def dkwX10_does_1 : List UInt8 := [21, 4, 182, 1, 196, 154, 0, 5, 3, 172, 42, 4, 28, 29, 21, 4, 182, 1, 205, 54, 5, 4, 172]
abbrev dktX10_does_1 : List UInt8 := dkwX10_does_1 ++ []
def dkwX10_does_0 : List UInt8 := [42, 27, 182, 1, 226, 61, 42, 27, 182, 1, 229, 62, 42, 27, 182, 1, 232, 54, 4, 42, 4, 28, 29]
abbrev dktX10_does_0 : List UInt8 := dkwX10_does_0 ++ dktX10_does_1
theorem dksX10_does_0 : cX10_does.data.toList.drop 0 = dktX10_does_0 := by decide +kernel
theorem dksX10_does_1 : cX10_does.data.toList.drop 23 = dktX10_does_1 := dk_seg dksX10_does_0 23 rfl rfl
theorem dX10_does_0 : decode cX10_does 0 = .ok (.aload_n 0, 1) := dk_42 (dk_at dksX10_does_0 0 rfl rfl)
theorem dX10_does_1 : decode cX10_does 1 = .ok (.iload_n 1, 1) := dk_27 (dk_at dksX10_does_0 1 rfl rfl)
theorem dX10_does_2 : decode cX10_does 2 = .ok (.invokevirtual 482, 3) := dk_182 1 226 (dk_at dksX10_does_0 2 rfl rfl)
theorem dX10_does_5 : decode cX10_does 5 = .ok (.istore_n 2, 1) := dk_61 (dk_at dksX10_does_0 5 rfl rfl)
theorem dX10_does_6 : decode cX10_does 6 = .ok (.aload_n 0, 1) := dk_42 (dk_at dksX10_does_0 6 rfl rfl)
theorem dX10_does_7 : decode cX10_does 7 = .ok (.iload_n 1, 1) := dk_27 (dk_at dksX10_does_0 7 rfl rfl)
theorem dX10_does_8 : decode cX10_does 8 = .ok (.invokevirtual 485, 3) := dk_182 1 229 (dk_at dksX10_does_0 8 rfl rfl)
theorem dX10_does_11 : decode cX10_does 11 = .ok (.istore_n 3, 1) := dk_62 (dk_at dksX10_does_0 11 rfl rfl)
theorem dX10_does_12 : decode cX10_does 12 = .ok (.aload_n 0, 1) := dk_42 (dk_at dksX10_does_0 12 rfl rfl)
theorem dX10_does_13 : decode cX10_does 13 = .ok (.iload_n 1, 1) := dk_27 (dk_at dksX10_does_0 13 rfl rfl)
theorem dX10_does_14 : decode cX10_does 14 = .ok (.invokevirtual 488, 3) := dk_182 1 232 (dk_at dksX10_does_0 14 rfl rfl)
theorem dX10_does_17 : decode cX10_does 17 = .ok (.istore 4, 2) := dk_54 4 (dk_at dksX10_does_0 17 rfl rfl)
theorem dX10_does_19 : decode cX10_does 19 = .ok (.aload_n 0, 1) := dk_42 (dk_at dksX10_does_0 19 rfl rfl)
theorem dX10_does_20 : decode cX10_does 20 = .ok (.iconst 1, 1) := dk_4 (dk_at dksX10_does_0 20 rfl rfl)
theorem dX10_does_21 : decode cX10_does 21 = .ok (.iload_n 2, 1) := dk_28 (dk_at dksX10_does_0 21 rfl rfl)
theorem dX10_does_22 : decode cX10_does 22 = .ok (.iload_n 3, 1) := dk_29 (dk_at dksX10_does_0 22 rfl rfl)
theorem dX10_does_23 : decode cX10_does 23 = .ok (.iload 4, 2) := dk_21 4 (dk_at dksX10_does_1 0 rfl rfl)
theorem dX10_does_25 : decode cX10_does 25 = .ok (.invokevirtual 452, 3) := dk_182 1 196 (dk_at dksX10_does_1 2 rfl rfl)
theorem dX10_does_28 : decode cX10_does 28 = .ok (.ifCond .ne 5, 3) := dk_154 0 5 (dk_at dksX10_does_1 5 rfl rfl)
theorem dX10_does_31 : decode cX10_does 31 = .ok (.iconst 0, 1) := dk_3 (dk_at dksX10_does_1 8 rfl rfl)
theorem dX10_does_32 : decode cX10_does 32 = .ok (.ireturn, 1) := dk_172 (dk_at dksX10_does_1 9 rfl rfl)
theorem dX10_does_33 : decode cX10_does 33 = .ok (.aload_n 0, 1) := dk_42 (dk_at dksX10_does_1 10 rfl rfl)
theorem dX10_does_34 : decode cX10_does 34 = .ok (.iconst 1, 1) := dk_4 (dk_at dksX10_does_1 11 rfl rfl)
theorem dX10_does_35 : decode cX10_does 35 = .ok (.iload_n 2, 1) := dk_28 (dk_at dksX10_does_1 12 rfl rfl)
theorem dX10_does_36 : decode cX10_does 36 = .ok (.iload_n 3, 1) := dk_29 (dk_at dksX10_does_1 13 rfl rfl)
theorem dX10_does_37 : decode cX10_does 37 = .ok (.iload 4, 2) := dk_21 4 (dk_at dksX10_does_1 14 rfl rfl)
theorem dX10_does_39 : decode cX10_does 39 = .ok (.invokevirtual 461, 3) := dk_182 1 205 (dk_at dksX10_does_1 16 rfl rfl)
theorem dX10_does_42 : decode cX10_does 42 = .ok (.istore 5, 2) := dk_54 5 (dk_at dksX10_does_1 19 rfl rfl)
theorem dX10_does_44 : decode cX10_does 44 = .ok (.iconst 1, 1) := dk_4 (dk_at dksX10_does_1 21 rfl rfl)
theorem dX10_does_45 : decode cX10_does 45 = .ok (.ireturn, 1) := dk_172 (dk_at dksX10_does_1 22 rfl rfl)
def dkwX10_whoOf_0 : List UInt8 := [27, 42, 180, 0, 234, 108, 42, 180, 0, 231, 108, 172]
abbrev dktX10_whoOf_0 : List UInt8 := dkwX10_whoOf_0 ++ []
theorem dksX10_whoOf_0 : cX10_whoOf.data.toList.drop 0 = dktX10_whoOf_0 := by decide +kernel
theorem dX10_whoOf_0 : decode cX10_whoOf 0 = .ok (.iload_n 1, 1) := dk_27 (dk_at dksX10_whoOf_0 0 rfl rfl)
theorem dX10_whoOf_1 : decode cX10_whoOf 1 = .ok (.aload_n 0, 1) := dk_42 (dk_at dksX10_whoOf_0 1 rfl rfl)
theorem dX10_whoOf_2 : decode cX10_whoOf 2 = .ok (.getfield 234, 3) := dk_180 0 234 (dk_at dksX10_whoOf_0 2 rfl rfl)
theorem dX10_whoOf_5 : decode cX10_whoOf 5 = .ok (.idiv, 1) := dk_108 (dk_at dksX10_whoOf_0 5 rfl rfl)
theorem dX10_whoOf_6 : decode cX10_whoOf 6 = .ok (.aload_n 0, 1) := dk_42 (dk_at dksX10_whoOf_0 6 rfl rfl)
theorem dX10_whoOf_7 : decode cX10_whoOf 7 = .ok (.getfield 231, 3) := dk_180 0 231 (dk_at dksX10_whoOf_0 7 rfl rfl)
theorem dX10_whoOf_10 : decode cX10_whoOf 10 = .ok (.idiv, 1) := dk_108 (dk_at dksX10_whoOf_0 10 rfl rfl)
theorem dX10_whoOf_11 : decode cX10_whoOf 11 = .ok (.ireturn, 1) := dk_172 (dk_at dksX10_whoOf_0 11 rfl rfl)
def dkwX10_whomOf_0 : List UInt8 := [27, 42, 180, 0, 234, 108, 42, 180, 0, 231, 112, 172]
abbrev dktX10_whomOf_0 : List UInt8 := dkwX10_whomOf_0 ++ []
theorem dksX10_whomOf_0 : cX10_whomOf.data.toList.drop 0 = dktX10_whomOf_0 := by decide +kernel
theorem dX10_whomOf_0 : decode cX10_whomOf 0 = .ok (.iload_n 1, 1) := dk_27 (dk_at dksX10_whomOf_0 0 rfl rfl)
theorem dX10_whomOf_1 : decode cX10_whomOf 1 = .ok (.aload_n 0, 1) := dk_42 (dk_at dksX10_whomOf_0 1 rfl rfl)
theorem dX10_whomOf_2 : decode cX10_whomOf 2 = .ok (.getfield 234, 3) := dk_180 0 234 (dk_at dksX10_whomOf_0 2 rfl rfl)
theorem dX10_whomOf_5 : decode cX10_whomOf 5 = .ok (.idiv, 1) := dk_108 (dk_at dksX10_whomOf_0 5 rfl rfl)
theorem dX10_whomOf_6 : decode cX10_whomOf 6 = .ok (.aload_n 0, 1) := dk_42 (dk_at dksX10_whomOf_0 6 rfl rfl)
theorem dX10_whomOf_7 : decode cX10_whomOf 7 = .ok (.getfield 231, 3) := dk_180 0 231 (dk_at dksX10_whomOf_0 7 rfl rfl)
theorem dX10_whomOf_10 : decode cX10_whomOf 10 = .ok (.irem, 1) := dk_112 (dk_at dksX10_whomOf_0 10 rfl rfl)
theorem dX10_whomOf_11 : decode cX10_whomOf 11 = .ok (.ireturn, 1) := dk_172 (dk_at dksX10_whomOf_0 11 rfl rfl)
def dkwX10_whatOf_0 : List UInt8 := [27, 42, 180, 0, 234, 112, 172]
abbrev dktX10_whatOf_0 : List UInt8 := dkwX10_whatOf_0 ++ []
theorem dksX10_whatOf_0 : cX10_whatOf.data.toList.drop 0 = dktX10_whatOf_0 := by decide +kernel
theorem dX10_whatOf_0 : decode cX10_whatOf 0 = .ok (.iload_n 1, 1) := dk_27 (dk_at dksX10_whatOf_0 0 rfl rfl)
theorem dX10_whatOf_1 : decode cX10_whatOf 1 = .ok (.aload_n 0, 1) := dk_42 (dk_at dksX10_whatOf_0 1 rfl rfl)
theorem dX10_whatOf_2 : decode cX10_whatOf 2 = .ok (.getfield 234, 3) := dk_180 0 234 (dk_at dksX10_whatOf_0 2 rfl rfl)
theorem dX10_whatOf_5 : decode cX10_whatOf 5 = .ok (.irem, 1) := dk_112 (dk_at dksX10_whatOf_0 5 rfl rfl)
theorem dX10_whatOf_6 : decode cX10_whatOf 6 = .ok (.ireturn, 1) := dk_172 (dk_at dksX10_whatOf_0 6 rfl rfl)
def dkwX10_isWay_3 : List UInt8 := [184, 1, 8, 172]
abbrev dktX10_isWay_3 : List UInt8 := dkwX10_isWay_3 ++ []
def dkwX10_isWay_2 : List UInt8 := [184, 1, 8, 153, 0, 5, 3, 172, 132, 4, 1, 167, 255, 203, 42, 180, 0, 100, 8, 27, 96, 46, 28]
abbrev dktX10_isWay_2 : List UInt8 := dkwX10_isWay_2 ++ dktX10_isWay_3
def dkwX10_isWay_1 : List UInt8 := [180, 0, 100, 21, 4, 46, 28, 184, 1, 8, 154, 0, 21, 42, 180, 0, 100, 8, 21, 4, 96, 46, 28]
abbrev dktX10_isWay_1 : List UInt8 := dkwX10_isWay_1 ++ dktX10_isWay_2
def dkwX10_isWay_0 : List UInt8 := [3, 54, 4, 21, 4, 42, 180, 0, 231, 162, 0, 50, 29, 21, 4, 184, 1, 8, 153, 0, 35, 42]
abbrev dktX10_isWay_0 : List UInt8 := dkwX10_isWay_0 ++ dktX10_isWay_1
theorem dksX10_isWay_0 : cX10_isWay.data.toList.drop 0 = dktX10_isWay_0 := by decide +kernel
theorem dksX10_isWay_1 : cX10_isWay.data.toList.drop 22 = dktX10_isWay_1 := dk_seg dksX10_isWay_0 22 rfl rfl
theorem dksX10_isWay_2 : cX10_isWay.data.toList.drop 45 = dktX10_isWay_2 := dk_seg dksX10_isWay_1 23 rfl rfl
theorem dksX10_isWay_3 : cX10_isWay.data.toList.drop 68 = dktX10_isWay_3 := dk_seg dksX10_isWay_2 23 rfl rfl
theorem dX10_isWay_0 : decode cX10_isWay 0 = .ok (.iconst 0, 1) := dk_3 (dk_at dksX10_isWay_0 0 rfl rfl)
theorem dX10_isWay_1 : decode cX10_isWay 1 = .ok (.istore 4, 2) := dk_54 4 (dk_at dksX10_isWay_0 1 rfl rfl)
theorem dX10_isWay_3 : decode cX10_isWay 3 = .ok (.iload 4, 2) := dk_21 4 (dk_at dksX10_isWay_0 3 rfl rfl)
theorem dX10_isWay_5 : decode cX10_isWay 5 = .ok (.aload_n 0, 1) := dk_42 (dk_at dksX10_isWay_0 5 rfl rfl)
theorem dX10_isWay_6 : decode cX10_isWay 6 = .ok (.getfield 231, 3) := dk_180 0 231 (dk_at dksX10_isWay_0 6 rfl rfl)
theorem dX10_isWay_9 : decode cX10_isWay 9 = .ok (.if_icmp .ge 50, 3) := dk_162 0 50 (dk_at dksX10_isWay_0 9 rfl rfl)
theorem dX10_isWay_12 : decode cX10_isWay 12 = .ok (.iload_n 3, 1) := dk_29 (dk_at dksX10_isWay_0 12 rfl rfl)
theorem dX10_isWay_13 : decode cX10_isWay 13 = .ok (.iload 4, 2) := dk_21 4 (dk_at dksX10_isWay_0 13 rfl rfl)
theorem dX10_isWay_15 : decode cX10_isWay 15 = .ok (.invokestatic 264, 3) := dk_184 1 8 (dk_at dksX10_isWay_0 15 rfl rfl)
theorem dX10_isWay_18 : decode cX10_isWay 18 = .ok (.ifCond .eq 35, 3) := dk_153 0 35 (dk_at dksX10_isWay_0 18 rfl rfl)
theorem dX10_isWay_21 : decode cX10_isWay 21 = .ok (.aload_n 0, 1) := dk_42 (dk_at dksX10_isWay_0 21 rfl rfl)
theorem dX10_isWay_22 : decode cX10_isWay 22 = .ok (.getfield 100, 3) := dk_180 0 100 (dk_at dksX10_isWay_1 0 rfl rfl)
theorem dX10_isWay_25 : decode cX10_isWay 25 = .ok (.iload 4, 2) := dk_21 4 (dk_at dksX10_isWay_1 3 rfl rfl)
theorem dX10_isWay_27 : decode cX10_isWay 27 = .ok (.iaload, 1) := dk_46 (dk_at dksX10_isWay_1 5 rfl rfl)
theorem dX10_isWay_28 : decode cX10_isWay 28 = .ok (.iload_n 2, 1) := dk_28 (dk_at dksX10_isWay_1 6 rfl rfl)
theorem dX10_isWay_29 : decode cX10_isWay 29 = .ok (.invokestatic 264, 3) := dk_184 1 8 (dk_at dksX10_isWay_1 7 rfl rfl)
theorem dX10_isWay_32 : decode cX10_isWay 32 = .ok (.ifCond .ne 21, 3) := dk_154 0 21 (dk_at dksX10_isWay_1 10 rfl rfl)
theorem dX10_isWay_35 : decode cX10_isWay 35 = .ok (.aload_n 0, 1) := dk_42 (dk_at dksX10_isWay_1 13 rfl rfl)
theorem dX10_isWay_36 : decode cX10_isWay 36 = .ok (.getfield 100, 3) := dk_180 0 100 (dk_at dksX10_isWay_1 14 rfl rfl)
theorem dX10_isWay_39 : decode cX10_isWay 39 = .ok (.iconst 5, 1) := dk_8 (dk_at dksX10_isWay_1 17 rfl rfl)
theorem dX10_isWay_40 : decode cX10_isWay 40 = .ok (.iload 4, 2) := dk_21 4 (dk_at dksX10_isWay_1 18 rfl rfl)
theorem dX10_isWay_42 : decode cX10_isWay 42 = .ok (.iadd, 1) := dk_96 (dk_at dksX10_isWay_1 20 rfl rfl)
theorem dX10_isWay_43 : decode cX10_isWay 43 = .ok (.iaload, 1) := dk_46 (dk_at dksX10_isWay_1 21 rfl rfl)
theorem dX10_isWay_44 : decode cX10_isWay 44 = .ok (.iload_n 2, 1) := dk_28 (dk_at dksX10_isWay_1 22 rfl rfl)
theorem dX10_isWay_45 : decode cX10_isWay 45 = .ok (.invokestatic 264, 3) := dk_184 1 8 (dk_at dksX10_isWay_2 0 rfl rfl)
theorem dX10_isWay_48 : decode cX10_isWay 48 = .ok (.ifCond .eq 5, 3) := dk_153 0 5 (dk_at dksX10_isWay_2 3 rfl rfl)
theorem dX10_isWay_51 : decode cX10_isWay 51 = .ok (.iconst 0, 1) := dk_3 (dk_at dksX10_isWay_2 6 rfl rfl)
theorem dX10_isWay_52 : decode cX10_isWay 52 = .ok (.ireturn, 1) := dk_172 (dk_at dksX10_isWay_2 7 rfl rfl)
theorem dX10_isWay_53 : decode cX10_isWay 53 = .ok (.iinc 4 1, 3) := dk_132 4 1 (dk_at dksX10_isWay_2 8 rfl rfl)
theorem dX10_isWay_56 : decode cX10_isWay 56 = .ok (.goto (-53), 3) := dk_167 255 203 (dk_at dksX10_isWay_2 11 rfl rfl)
theorem dX10_isWay_59 : decode cX10_isWay 59 = .ok (.aload_n 0, 1) := dk_42 (dk_at dksX10_isWay_2 14 rfl rfl)
theorem dX10_isWay_60 : decode cX10_isWay 60 = .ok (.getfield 100, 3) := dk_180 0 100 (dk_at dksX10_isWay_2 15 rfl rfl)
theorem dX10_isWay_63 : decode cX10_isWay 63 = .ok (.iconst 5, 1) := dk_8 (dk_at dksX10_isWay_2 18 rfl rfl)
theorem dX10_isWay_64 : decode cX10_isWay 64 = .ok (.iload_n 1, 1) := dk_27 (dk_at dksX10_isWay_2 19 rfl rfl)
theorem dX10_isWay_65 : decode cX10_isWay 65 = .ok (.iadd, 1) := dk_96 (dk_at dksX10_isWay_2 20 rfl rfl)
theorem dX10_isWay_66 : decode cX10_isWay 66 = .ok (.iaload, 1) := dk_46 (dk_at dksX10_isWay_2 21 rfl rfl)
theorem dX10_isWay_67 : decode cX10_isWay 67 = .ok (.iload_n 2, 1) := dk_28 (dk_at dksX10_isWay_2 22 rfl rfl)
theorem dX10_isWay_68 : decode cX10_isWay 68 = .ok (.invokestatic 264, 3) := dk_184 1 8 (dk_at dksX10_isWay_3 0 rfl rfl)
theorem dX10_isWay_71 : decode cX10_isWay 71 = .ok (.ireturn, 1) := dk_172 (dk_at dksX10_isWay_3 3 rfl rfl)
def dkwX10_step_3 : List UInt8 := [182, 1, 229, 104, 96, 42, 42, 180, 0, 115, 21, 5, 46, 182, 1, 232, 96, 172]
abbrev dktX10_step_3 : List UInt8 := dkwX10_step_3 ++ []
def dkwX10_step_2 : List UInt8 := [16, 100, 42, 42, 180, 0, 115, 21, 5, 46, 182, 1, 226, 104, 16, 10, 42, 42, 180, 0, 115, 21, 5, 46]
abbrev dktX10_step_2 : List UInt8 := dkwX10_step_2 ++ dktX10_step_3
def dkwX10_step_1 : List UInt8 := [42, 27, 28, 29, 21, 4, 182, 1, 247, 54, 6, 21, 5, 21, 6, 161, 0, 8, 16, 254, 167, 0, 44]
abbrev dktX10_step_1 : List UInt8 := dkwX10_step_1 ++ dktX10_step_2
def dkwX10_step_0 : List UInt8 := [42, 3, 181, 0, 148, 42, 27, 28, 29, 21, 4, 182, 1, 244, 153, 0, 8, 21, 5, 156, 0, 5, 2, 172]
abbrev dktX10_step_0 : List UInt8 := dkwX10_step_0 ++ dktX10_step_1
theorem dksX10_step_0 : cX10_step.data.toList.drop 0 = dktX10_step_0 := by decide +kernel
theorem dksX10_step_1 : cX10_step.data.toList.drop 24 = dktX10_step_1 := dk_seg dksX10_step_0 24 rfl rfl
theorem dksX10_step_2 : cX10_step.data.toList.drop 47 = dktX10_step_2 := dk_seg dksX10_step_1 23 rfl rfl
theorem dksX10_step_3 : cX10_step.data.toList.drop 71 = dktX10_step_3 := dk_seg dksX10_step_2 24 rfl rfl
theorem dX10_step_0 : decode cX10_step 0 = .ok (.aload_n 0, 1) := dk_42 (dk_at dksX10_step_0 0 rfl rfl)
theorem dX10_step_1 : decode cX10_step 1 = .ok (.iconst 0, 1) := dk_3 (dk_at dksX10_step_0 1 rfl rfl)
theorem dX10_step_2 : decode cX10_step 2 = .ok (.putfield 148, 3) := dk_181 0 148 (dk_at dksX10_step_0 2 rfl rfl)
theorem dX10_step_5 : decode cX10_step 5 = .ok (.aload_n 0, 1) := dk_42 (dk_at dksX10_step_0 5 rfl rfl)
theorem dX10_step_6 : decode cX10_step 6 = .ok (.iload_n 1, 1) := dk_27 (dk_at dksX10_step_0 6 rfl rfl)
theorem dX10_step_7 : decode cX10_step 7 = .ok (.iload_n 2, 1) := dk_28 (dk_at dksX10_step_0 7 rfl rfl)
theorem dX10_step_8 : decode cX10_step 8 = .ok (.iload_n 3, 1) := dk_29 (dk_at dksX10_step_0 8 rfl rfl)
theorem dX10_step_9 : decode cX10_step 9 = .ok (.iload 4, 2) := dk_21 4 (dk_at dksX10_step_0 9 rfl rfl)
theorem dX10_step_11 : decode cX10_step 11 = .ok (.invokevirtual 500, 3) := dk_182 1 244 (dk_at dksX10_step_0 11 rfl rfl)
theorem dX10_step_14 : decode cX10_step 14 = .ok (.ifCond .eq 8, 3) := dk_153 0 8 (dk_at dksX10_step_0 14 rfl rfl)
theorem dX10_step_17 : decode cX10_step 17 = .ok (.iload 5, 2) := dk_21 5 (dk_at dksX10_step_0 17 rfl rfl)
theorem dX10_step_19 : decode cX10_step 19 = .ok (.ifCond .ge 5, 3) := dk_156 0 5 (dk_at dksX10_step_0 19 rfl rfl)
theorem dX10_step_22 : decode cX10_step 22 = .ok (.iconst (-1), 1) := dk_2 (dk_at dksX10_step_0 22 rfl rfl)
theorem dX10_step_23 : decode cX10_step 23 = .ok (.ireturn, 1) := dk_172 (dk_at dksX10_step_0 23 rfl rfl)
theorem dX10_step_24 : decode cX10_step 24 = .ok (.aload_n 0, 1) := dk_42 (dk_at dksX10_step_1 0 rfl rfl)
theorem dX10_step_25 : decode cX10_step 25 = .ok (.iload_n 1, 1) := dk_27 (dk_at dksX10_step_1 1 rfl rfl)
theorem dX10_step_26 : decode cX10_step 26 = .ok (.iload_n 2, 1) := dk_28 (dk_at dksX10_step_1 2 rfl rfl)
theorem dX10_step_27 : decode cX10_step 27 = .ok (.iload_n 3, 1) := dk_29 (dk_at dksX10_step_1 3 rfl rfl)
theorem dX10_step_28 : decode cX10_step 28 = .ok (.iload 4, 2) := dk_21 4 (dk_at dksX10_step_1 4 rfl rfl)
theorem dX10_step_30 : decode cX10_step 30 = .ok (.invokevirtual 503, 3) := dk_182 1 247 (dk_at dksX10_step_1 6 rfl rfl)
theorem dX10_step_33 : decode cX10_step 33 = .ok (.istore 6, 2) := dk_54 6 (dk_at dksX10_step_1 9 rfl rfl)
theorem dX10_step_35 : decode cX10_step 35 = .ok (.iload 5, 2) := dk_21 5 (dk_at dksX10_step_1 11 rfl rfl)
theorem dX10_step_37 : decode cX10_step 37 = .ok (.iload 6, 2) := dk_21 6 (dk_at dksX10_step_1 13 rfl rfl)
theorem dX10_step_39 : decode cX10_step 39 = .ok (.if_icmp .lt 8, 3) := dk_161 0 8 (dk_at dksX10_step_1 15 rfl rfl)
theorem dX10_step_42 : decode cX10_step 42 = .ok (.bipush (-2), 2) := dk_16 254 (dk_at dksX10_step_1 18 rfl rfl)
theorem dX10_step_44 : decode cX10_step 44 = .ok (.goto 44, 3) := dk_167 0 44 (dk_at dksX10_step_1 20 rfl rfl)
theorem dX10_step_47 : decode cX10_step 47 = .ok (.bipush 100, 2) := dk_16 100 (dk_at dksX10_step_2 0 rfl rfl)
theorem dX10_step_49 : decode cX10_step 49 = .ok (.aload_n 0, 1) := dk_42 (dk_at dksX10_step_2 2 rfl rfl)
theorem dX10_step_50 : decode cX10_step 50 = .ok (.aload_n 0, 1) := dk_42 (dk_at dksX10_step_2 3 rfl rfl)
theorem dX10_step_51 : decode cX10_step 51 = .ok (.getfield 115, 3) := dk_180 0 115 (dk_at dksX10_step_2 4 rfl rfl)
theorem dX10_step_54 : decode cX10_step 54 = .ok (.iload 5, 2) := dk_21 5 (dk_at dksX10_step_2 7 rfl rfl)
theorem dX10_step_56 : decode cX10_step 56 = .ok (.iaload, 1) := dk_46 (dk_at dksX10_step_2 9 rfl rfl)
theorem dX10_step_57 : decode cX10_step 57 = .ok (.invokevirtual 482, 3) := dk_182 1 226 (dk_at dksX10_step_2 10 rfl rfl)
theorem dX10_step_60 : decode cX10_step 60 = .ok (.imul, 1) := dk_104 (dk_at dksX10_step_2 13 rfl rfl)
theorem dX10_step_61 : decode cX10_step 61 = .ok (.bipush 10, 2) := dk_16 10 (dk_at dksX10_step_2 14 rfl rfl)
theorem dX10_step_63 : decode cX10_step 63 = .ok (.aload_n 0, 1) := dk_42 (dk_at dksX10_step_2 16 rfl rfl)
theorem dX10_step_64 : decode cX10_step 64 = .ok (.aload_n 0, 1) := dk_42 (dk_at dksX10_step_2 17 rfl rfl)
theorem dX10_step_65 : decode cX10_step 65 = .ok (.getfield 115, 3) := dk_180 0 115 (dk_at dksX10_step_2 18 rfl rfl)
theorem dX10_step_68 : decode cX10_step 68 = .ok (.iload 5, 2) := dk_21 5 (dk_at dksX10_step_2 21 rfl rfl)
theorem dX10_step_70 : decode cX10_step 70 = .ok (.iaload, 1) := dk_46 (dk_at dksX10_step_2 23 rfl rfl)
theorem dX10_step_71 : decode cX10_step 71 = .ok (.invokevirtual 485, 3) := dk_182 1 229 (dk_at dksX10_step_3 0 rfl rfl)
theorem dX10_step_74 : decode cX10_step 74 = .ok (.imul, 1) := dk_104 (dk_at dksX10_step_3 3 rfl rfl)
theorem dX10_step_75 : decode cX10_step 75 = .ok (.iadd, 1) := dk_96 (dk_at dksX10_step_3 4 rfl rfl)
theorem dX10_step_76 : decode cX10_step 76 = .ok (.aload_n 0, 1) := dk_42 (dk_at dksX10_step_3 5 rfl rfl)
theorem dX10_step_77 : decode cX10_step 77 = .ok (.aload_n 0, 1) := dk_42 (dk_at dksX10_step_3 6 rfl rfl)
theorem dX10_step_78 : decode cX10_step 78 = .ok (.getfield 115, 3) := dk_180 0 115 (dk_at dksX10_step_3 7 rfl rfl)
theorem dX10_step_81 : decode cX10_step 81 = .ok (.iload 5, 2) := dk_21 5 (dk_at dksX10_step_3 10 rfl rfl)
theorem dX10_step_83 : decode cX10_step 83 = .ok (.iaload, 1) := dk_46 (dk_at dksX10_step_3 12 rfl rfl)
theorem dX10_step_84 : decode cX10_step 84 = .ok (.invokevirtual 488, 3) := dk_182 1 232 (dk_at dksX10_step_3 13 rfl rfl)
theorem dX10_step_87 : decode cX10_step 87 = .ok (.iadd, 1) := dk_96 (dk_at dksX10_step_3 16 rfl rfl)
theorem dX10_step_88 : decode cX10_step 88 = .ok (.ireturn, 1) := dk_172 (dk_at dksX10_step_3 17 rfl rfl)
def dkwX10_care_2 : List UInt8 := [132, 3, 1, 167, 255, 226, 28, 172]
abbrev dktX10_care_2 : List UInt8 := dkwX10_care_2 ++ []
def dkwX10_care_1 : List UInt8 := [162, 0, 28, 28, 42, 27, 29, 182, 1, 251, 153, 0, 9, 4, 29, 120, 167, 0, 4, 3, 128, 61]
abbrev dktX10_care_1 : List UInt8 := dkwX10_care_1 ++ dktX10_care_2
def dkwX10_care_0 : List UInt8 := [42, 3, 181, 0, 148, 42, 27, 182, 1, 187, 154, 0, 5, 2, 172, 3, 61, 3, 62, 29, 42, 180, 0, 234]
abbrev dktX10_care_0 : List UInt8 := dkwX10_care_0 ++ dktX10_care_1
theorem dksX10_care_0 : cX10_care.data.toList.drop 0 = dktX10_care_0 := by decide +kernel
theorem dksX10_care_1 : cX10_care.data.toList.drop 24 = dktX10_care_1 := dk_seg dksX10_care_0 24 rfl rfl
theorem dksX10_care_2 : cX10_care.data.toList.drop 46 = dktX10_care_2 := dk_seg dksX10_care_1 22 rfl rfl
theorem dX10_care_0 : decode cX10_care 0 = .ok (.aload_n 0, 1) := dk_42 (dk_at dksX10_care_0 0 rfl rfl)
theorem dX10_care_1 : decode cX10_care 1 = .ok (.iconst 0, 1) := dk_3 (dk_at dksX10_care_0 1 rfl rfl)
theorem dX10_care_2 : decode cX10_care 2 = .ok (.putfield 148, 3) := dk_181 0 148 (dk_at dksX10_care_0 2 rfl rfl)
theorem dX10_care_5 : decode cX10_care 5 = .ok (.aload_n 0, 1) := dk_42 (dk_at dksX10_care_0 5 rfl rfl)
theorem dX10_care_6 : decode cX10_care 6 = .ok (.iload_n 1, 1) := dk_27 (dk_at dksX10_care_0 6 rfl rfl)
theorem dX10_care_7 : decode cX10_care 7 = .ok (.invokevirtual 443, 3) := dk_182 1 187 (dk_at dksX10_care_0 7 rfl rfl)
theorem dX10_care_10 : decode cX10_care 10 = .ok (.ifCond .ne 5, 3) := dk_154 0 5 (dk_at dksX10_care_0 10 rfl rfl)
theorem dX10_care_13 : decode cX10_care 13 = .ok (.iconst (-1), 1) := dk_2 (dk_at dksX10_care_0 13 rfl rfl)
theorem dX10_care_14 : decode cX10_care 14 = .ok (.ireturn, 1) := dk_172 (dk_at dksX10_care_0 14 rfl rfl)
theorem dX10_care_15 : decode cX10_care 15 = .ok (.iconst 0, 1) := dk_3 (dk_at dksX10_care_0 15 rfl rfl)
theorem dX10_care_16 : decode cX10_care 16 = .ok (.istore_n 2, 1) := dk_61 (dk_at dksX10_care_0 16 rfl rfl)
theorem dX10_care_17 : decode cX10_care 17 = .ok (.iconst 0, 1) := dk_3 (dk_at dksX10_care_0 17 rfl rfl)
theorem dX10_care_18 : decode cX10_care 18 = .ok (.istore_n 3, 1) := dk_62 (dk_at dksX10_care_0 18 rfl rfl)
theorem dX10_care_19 : decode cX10_care 19 = .ok (.iload_n 3, 1) := dk_29 (dk_at dksX10_care_0 19 rfl rfl)
theorem dX10_care_20 : decode cX10_care 20 = .ok (.aload_n 0, 1) := dk_42 (dk_at dksX10_care_0 20 rfl rfl)
theorem dX10_care_21 : decode cX10_care 21 = .ok (.getfield 234, 3) := dk_180 0 234 (dk_at dksX10_care_0 21 rfl rfl)
theorem dX10_care_24 : decode cX10_care 24 = .ok (.if_icmp .ge 28, 3) := dk_162 0 28 (dk_at dksX10_care_1 0 rfl rfl)
theorem dX10_care_27 : decode cX10_care 27 = .ok (.iload_n 2, 1) := dk_28 (dk_at dksX10_care_1 3 rfl rfl)
theorem dX10_care_28 : decode cX10_care 28 = .ok (.aload_n 0, 1) := dk_42 (dk_at dksX10_care_1 4 rfl rfl)
theorem dX10_care_29 : decode cX10_care 29 = .ok (.iload_n 1, 1) := dk_27 (dk_at dksX10_care_1 5 rfl rfl)
theorem dX10_care_30 : decode cX10_care 30 = .ok (.iload_n 3, 1) := dk_29 (dk_at dksX10_care_1 6 rfl rfl)
theorem dX10_care_31 : decode cX10_care 31 = .ok (.invokevirtual 507, 3) := dk_182 1 251 (dk_at dksX10_care_1 7 rfl rfl)
theorem dX10_care_34 : decode cX10_care 34 = .ok (.ifCond .eq 9, 3) := dk_153 0 9 (dk_at dksX10_care_1 10 rfl rfl)
theorem dX10_care_37 : decode cX10_care 37 = .ok (.iconst 1, 1) := dk_4 (dk_at dksX10_care_1 13 rfl rfl)
theorem dX10_care_38 : decode cX10_care 38 = .ok (.iload_n 3, 1) := dk_29 (dk_at dksX10_care_1 14 rfl rfl)
theorem dX10_care_39 : decode cX10_care 39 = .ok (.ishl, 1) := dk_120 (dk_at dksX10_care_1 15 rfl rfl)
theorem dX10_care_40 : decode cX10_care 40 = .ok (.goto 4, 3) := dk_167 0 4 (dk_at dksX10_care_1 16 rfl rfl)
theorem dX10_care_43 : decode cX10_care 43 = .ok (.iconst 0, 1) := dk_3 (dk_at dksX10_care_1 19 rfl rfl)
theorem dX10_care_44 : decode cX10_care 44 = .ok (.ior, 1) := dk_128 (dk_at dksX10_care_1 20 rfl rfl)
theorem dX10_care_45 : decode cX10_care 45 = .ok (.istore_n 2, 1) := dk_61 (dk_at dksX10_care_1 21 rfl rfl)
theorem dX10_care_46 : decode cX10_care 46 = .ok (.iinc 3 1, 3) := dk_132 3 1 (dk_at dksX10_care_2 0 rfl rfl)
theorem dX10_care_49 : decode cX10_care 49 = .ok (.goto (-30), 3) := dk_167 255 226 (dk_at dksX10_care_2 3 rfl rfl)
theorem dX10_care_52 : decode cX10_care 52 = .ok (.iload_n 2, 1) := dk_28 (dk_at dksX10_care_2 6 rfl rfl)
theorem dX10_care_53 : decode cX10_care 53 = .ok (.ireturn, 1) := dk_172 (dk_at dksX10_care_2 7 rfl rfl)
def dkwX10_isCare_4 : List UInt8 := [172, 132, 4, 1, 167, 255, 201, 132, 3, 1, 167, 255, 155, 3, 172]
abbrev dktX10_isCare_4 : List UInt8 := dkwX10_isCare_4 ++ []
def dkwX10_isCare_3 : List UInt8 := [46, 160, 0, 24, 42, 180, 0, 100, 21, 4, 46, 42, 180, 0, 57, 28, 46, 184, 1, 8, 154, 0, 5, 4]
abbrev dktX10_isCare_3 : List UInt8 := dkwX10_isCare_3 ++ dktX10_isCare_4
def dkwX10_isCare_2 : List UInt8 := [180, 0, 231, 162, 0, 52, 21, 4, 27, 159, 0, 40, 42, 180, 0, 106, 21, 4, 46, 42, 180, 0, 106, 27]
abbrev dktX10_isCare_2 : List UInt8 := dkwX10_isCare_2 ++ dktX10_isCare_3
def dkwX10_isCare_1 : List UInt8 := [153, 0, 78, 42, 4, 29, 27, 28, 182, 1, 205, 154, 0, 6, 167, 0, 64, 3, 54, 4, 21, 4, 42]
abbrev dktX10_isCare_1 : List UInt8 := dkwX10_isCare_1 ++ dktX10_isCare_2
def dkwX10_isCare_0 : List UInt8 := [3, 62, 29, 42, 180, 0, 231, 162, 0, 99, 42, 182, 1, 214, 42, 4, 29, 27, 28, 182, 1, 196]
abbrev dktX10_isCare_0 : List UInt8 := dkwX10_isCare_0 ++ dktX10_isCare_1
theorem dksX10_isCare_0 : cX10_isCare.data.toList.drop 0 = dktX10_isCare_0 := by decide +kernel
theorem dksX10_isCare_1 : cX10_isCare.data.toList.drop 22 = dktX10_isCare_1 := dk_seg dksX10_isCare_0 22 rfl rfl
theorem dksX10_isCare_2 : cX10_isCare.data.toList.drop 45 = dktX10_isCare_2 := dk_seg dksX10_isCare_1 23 rfl rfl
theorem dksX10_isCare_3 : cX10_isCare.data.toList.drop 69 = dktX10_isCare_3 := dk_seg dksX10_isCare_2 24 rfl rfl
theorem dksX10_isCare_4 : cX10_isCare.data.toList.drop 93 = dktX10_isCare_4 := dk_seg dksX10_isCare_3 24 rfl rfl
theorem dX10_isCare_0 : decode cX10_isCare 0 = .ok (.iconst 0, 1) := dk_3 (dk_at dksX10_isCare_0 0 rfl rfl)
theorem dX10_isCare_1 : decode cX10_isCare 1 = .ok (.istore_n 3, 1) := dk_62 (dk_at dksX10_isCare_0 1 rfl rfl)
theorem dX10_isCare_2 : decode cX10_isCare 2 = .ok (.iload_n 3, 1) := dk_29 (dk_at dksX10_isCare_0 2 rfl rfl)
theorem dX10_isCare_3 : decode cX10_isCare 3 = .ok (.aload_n 0, 1) := dk_42 (dk_at dksX10_isCare_0 3 rfl rfl)
theorem dX10_isCare_4 : decode cX10_isCare 4 = .ok (.getfield 231, 3) := dk_180 0 231 (dk_at dksX10_isCare_0 4 rfl rfl)
theorem dX10_isCare_7 : decode cX10_isCare 7 = .ok (.if_icmp .ge 99, 3) := dk_162 0 99 (dk_at dksX10_isCare_0 7 rfl rfl)
theorem dX10_isCare_10 : decode cX10_isCare 10 = .ok (.aload_n 0, 1) := dk_42 (dk_at dksX10_isCare_0 10 rfl rfl)
theorem dX10_isCare_11 : decode cX10_isCare 11 = .ok (.invokevirtual 470, 3) := dk_182 1 214 (dk_at dksX10_isCare_0 11 rfl rfl)
theorem dX10_isCare_14 : decode cX10_isCare 14 = .ok (.aload_n 0, 1) := dk_42 (dk_at dksX10_isCare_0 14 rfl rfl)
theorem dX10_isCare_15 : decode cX10_isCare 15 = .ok (.iconst 1, 1) := dk_4 (dk_at dksX10_isCare_0 15 rfl rfl)
theorem dX10_isCare_16 : decode cX10_isCare 16 = .ok (.iload_n 3, 1) := dk_29 (dk_at dksX10_isCare_0 16 rfl rfl)
theorem dX10_isCare_17 : decode cX10_isCare 17 = .ok (.iload_n 1, 1) := dk_27 (dk_at dksX10_isCare_0 17 rfl rfl)
theorem dX10_isCare_18 : decode cX10_isCare 18 = .ok (.iload_n 2, 1) := dk_28 (dk_at dksX10_isCare_0 18 rfl rfl)
theorem dX10_isCare_19 : decode cX10_isCare 19 = .ok (.invokevirtual 452, 3) := dk_182 1 196 (dk_at dksX10_isCare_0 19 rfl rfl)
theorem dX10_isCare_22 : decode cX10_isCare 22 = .ok (.ifCond .eq 78, 3) := dk_153 0 78 (dk_at dksX10_isCare_1 0 rfl rfl)
theorem dX10_isCare_25 : decode cX10_isCare 25 = .ok (.aload_n 0, 1) := dk_42 (dk_at dksX10_isCare_1 3 rfl rfl)
theorem dX10_isCare_26 : decode cX10_isCare 26 = .ok (.iconst 1, 1) := dk_4 (dk_at dksX10_isCare_1 4 rfl rfl)
theorem dX10_isCare_27 : decode cX10_isCare 27 = .ok (.iload_n 3, 1) := dk_29 (dk_at dksX10_isCare_1 5 rfl rfl)
theorem dX10_isCare_28 : decode cX10_isCare 28 = .ok (.iload_n 1, 1) := dk_27 (dk_at dksX10_isCare_1 6 rfl rfl)
theorem dX10_isCare_29 : decode cX10_isCare 29 = .ok (.iload_n 2, 1) := dk_28 (dk_at dksX10_isCare_1 7 rfl rfl)
theorem dX10_isCare_30 : decode cX10_isCare 30 = .ok (.invokevirtual 461, 3) := dk_182 1 205 (dk_at dksX10_isCare_1 8 rfl rfl)
theorem dX10_isCare_33 : decode cX10_isCare 33 = .ok (.ifCond .ne 6, 3) := dk_154 0 6 (dk_at dksX10_isCare_1 11 rfl rfl)
theorem dX10_isCare_36 : decode cX10_isCare 36 = .ok (.goto 64, 3) := dk_167 0 64 (dk_at dksX10_isCare_1 14 rfl rfl)
theorem dX10_isCare_39 : decode cX10_isCare 39 = .ok (.iconst 0, 1) := dk_3 (dk_at dksX10_isCare_1 17 rfl rfl)
theorem dX10_isCare_40 : decode cX10_isCare 40 = .ok (.istore 4, 2) := dk_54 4 (dk_at dksX10_isCare_1 18 rfl rfl)
theorem dX10_isCare_42 : decode cX10_isCare 42 = .ok (.iload 4, 2) := dk_21 4 (dk_at dksX10_isCare_1 20 rfl rfl)
theorem dX10_isCare_44 : decode cX10_isCare 44 = .ok (.aload_n 0, 1) := dk_42 (dk_at dksX10_isCare_1 22 rfl rfl)
theorem dX10_isCare_45 : decode cX10_isCare 45 = .ok (.getfield 231, 3) := dk_180 0 231 (dk_at dksX10_isCare_2 0 rfl rfl)
theorem dX10_isCare_48 : decode cX10_isCare 48 = .ok (.if_icmp .ge 52, 3) := dk_162 0 52 (dk_at dksX10_isCare_2 3 rfl rfl)
theorem dX10_isCare_51 : decode cX10_isCare 51 = .ok (.iload 4, 2) := dk_21 4 (dk_at dksX10_isCare_2 6 rfl rfl)
theorem dX10_isCare_53 : decode cX10_isCare 53 = .ok (.iload_n 1, 1) := dk_27 (dk_at dksX10_isCare_2 8 rfl rfl)
theorem dX10_isCare_54 : decode cX10_isCare 54 = .ok (.if_icmp .eq 40, 3) := dk_159 0 40 (dk_at dksX10_isCare_2 9 rfl rfl)
theorem dX10_isCare_57 : decode cX10_isCare 57 = .ok (.aload_n 0, 1) := dk_42 (dk_at dksX10_isCare_2 12 rfl rfl)
theorem dX10_isCare_58 : decode cX10_isCare 58 = .ok (.getfield 106, 3) := dk_180 0 106 (dk_at dksX10_isCare_2 13 rfl rfl)
theorem dX10_isCare_61 : decode cX10_isCare 61 = .ok (.iload 4, 2) := dk_21 4 (dk_at dksX10_isCare_2 16 rfl rfl)
theorem dX10_isCare_63 : decode cX10_isCare 63 = .ok (.iaload, 1) := dk_46 (dk_at dksX10_isCare_2 18 rfl rfl)
theorem dX10_isCare_64 : decode cX10_isCare 64 = .ok (.aload_n 0, 1) := dk_42 (dk_at dksX10_isCare_2 19 rfl rfl)
theorem dX10_isCare_65 : decode cX10_isCare 65 = .ok (.getfield 106, 3) := dk_180 0 106 (dk_at dksX10_isCare_2 20 rfl rfl)
theorem dX10_isCare_68 : decode cX10_isCare 68 = .ok (.iload_n 1, 1) := dk_27 (dk_at dksX10_isCare_2 23 rfl rfl)
theorem dX10_isCare_69 : decode cX10_isCare 69 = .ok (.iaload, 1) := dk_46 (dk_at dksX10_isCare_3 0 rfl rfl)
theorem dX10_isCare_70 : decode cX10_isCare 70 = .ok (.if_icmp .ne 24, 3) := dk_160 0 24 (dk_at dksX10_isCare_3 1 rfl rfl)
theorem dX10_isCare_73 : decode cX10_isCare 73 = .ok (.aload_n 0, 1) := dk_42 (dk_at dksX10_isCare_3 4 rfl rfl)
theorem dX10_isCare_74 : decode cX10_isCare 74 = .ok (.getfield 100, 3) := dk_180 0 100 (dk_at dksX10_isCare_3 5 rfl rfl)
theorem dX10_isCare_77 : decode cX10_isCare 77 = .ok (.iload 4, 2) := dk_21 4 (dk_at dksX10_isCare_3 8 rfl rfl)
theorem dX10_isCare_79 : decode cX10_isCare 79 = .ok (.iaload, 1) := dk_46 (dk_at dksX10_isCare_3 10 rfl rfl)
theorem dX10_isCare_80 : decode cX10_isCare 80 = .ok (.aload_n 0, 1) := dk_42 (dk_at dksX10_isCare_3 11 rfl rfl)
theorem dX10_isCare_81 : decode cX10_isCare 81 = .ok (.getfield 57, 3) := dk_180 0 57 (dk_at dksX10_isCare_3 12 rfl rfl)
theorem dX10_isCare_84 : decode cX10_isCare 84 = .ok (.iload_n 2, 1) := dk_28 (dk_at dksX10_isCare_3 15 rfl rfl)
theorem dX10_isCare_85 : decode cX10_isCare 85 = .ok (.iaload, 1) := dk_46 (dk_at dksX10_isCare_3 16 rfl rfl)
theorem dX10_isCare_86 : decode cX10_isCare 86 = .ok (.invokestatic 264, 3) := dk_184 1 8 (dk_at dksX10_isCare_3 17 rfl rfl)
theorem dX10_isCare_89 : decode cX10_isCare 89 = .ok (.ifCond .ne 5, 3) := dk_154 0 5 (dk_at dksX10_isCare_3 20 rfl rfl)
theorem dX10_isCare_92 : decode cX10_isCare 92 = .ok (.iconst 1, 1) := dk_4 (dk_at dksX10_isCare_3 23 rfl rfl)
theorem dX10_isCare_93 : decode cX10_isCare 93 = .ok (.ireturn, 1) := dk_172 (dk_at dksX10_isCare_4 0 rfl rfl)
theorem dX10_isCare_94 : decode cX10_isCare 94 = .ok (.iinc 4 1, 3) := dk_132 4 1 (dk_at dksX10_isCare_4 1 rfl rfl)
theorem dX10_isCare_97 : decode cX10_isCare 97 = .ok (.goto (-55), 3) := dk_167 255 201 (dk_at dksX10_isCare_4 4 rfl rfl)
theorem dX10_isCare_100 : decode cX10_isCare 100 = .ok (.iinc 3 1, 3) := dk_132 3 1 (dk_at dksX10_isCare_4 7 rfl rfl)
theorem dX10_isCare_103 : decode cX10_isCare 103 = .ok (.goto (-101), 3) := dk_167 255 155 (dk_at dksX10_isCare_4 10 rfl rfl)
theorem dX10_isCare_106 : decode cX10_isCare 106 = .ok (.iconst 0, 1) := dk_3 (dk_at dksX10_isCare_4 13 rfl rfl)
theorem dX10_isCare_107 : decode cX10_isCare 107 = .ok (.ireturn, 1) := dk_172 (dk_at dksX10_isCare_4 14 rfl rfl)
def dkwX10_best_9 : List UInt8 := [104, 21, 8, 42, 180, 0, 234, 112, 96, 172]
abbrev dktX10_best_9 : List UInt8 := dkwX10_best_9 ++ []
def dkwX10_best_8 : List UInt8 := [21, 4, 167, 0, 31, 29, 28, 164, 0, 8, 16, 254, 167, 0, 21, 16, 10, 21, 8, 42, 180, 0, 234, 108]
abbrev dktX10_best_8 : List UInt8 := dkwX10_best_8 ++ dktX10_best_9
def dkwX10_best_7 : List UInt8 := [156, 0, 6, 16, 253, 172, 29, 4, 160, 0, 8, 21, 5, 167, 0, 5, 21, 6, 54, 8, 29, 154, 0, 8]
abbrev dktX10_best_7 : List UInt8 := dkwX10_best_7 ++ dktX10_best_8
def dkwX10_best_6 : List UInt8 := [21, 8, 54, 5, 21, 9, 54, 6, 132, 9, 1, 167, 255, 172, 132, 8, 1, 167, 255, 156, 21, 4]
abbrev dktX10_best_6 : List UInt8 := dkwX10_best_6 ++ dktX10_best_7
def dkwX10_best_5 : List UInt8 := [153, 0, 31, 42, 4, 182, 1, 211, 21, 4, 163, 0, 6, 167, 0, 18, 42, 4, 182, 1, 211, 54, 4]
abbrev dktX10_best_5 : List UInt8 := dkwX10_best_5 ++ dktX10_best_6
def dkwX10_best_4 : List UInt8 := [182, 1, 238, 153, 0, 50, 28, 5, 160, 0, 17, 42, 21, 7, 27, 104, 21, 9, 96, 182, 1, 238]
abbrev dktX10_best_4 : List UInt8 := dkwX10_best_4 ++ dktX10_best_5
def dkwX10_best_3 : List UInt8 := [160, 0, 8, 21, 7, 167, 0, 4, 4, 162, 0, 74, 42, 182, 1, 214, 42, 21, 7, 27, 104, 21, 8, 96]
abbrev dktX10_best_3 : List UInt8 := dkwX10_best_3 ++ dktX10_best_4
def dkwX10_best_2 : List UInt8 := [180, 0, 234, 104, 54, 7, 3, 54, 8, 21, 8, 21, 7, 162, 0, 99, 3, 54, 9, 21, 9, 28, 5]
abbrev dktX10_best_2 : List UInt8 := dkwX10_best_2 ++ dktX10_best_3
def dkwX10_best_1 : List UInt8 := [5, 184, 0, 193, 154, 0, 5, 2, 172, 2, 54, 4, 3, 54, 5, 3, 54, 6, 42, 180, 0, 231, 42]
abbrev dktX10_best_1 : List UInt8 := dkwX10_best_1 ++ dktX10_best_2
def dkwX10_best_0 : List UInt8 := [42, 3, 181, 0, 148, 42, 27, 182, 1, 187, 153, 0, 21, 28, 4, 5, 184, 0, 193, 153, 0, 12, 29, 3]
abbrev dktX10_best_0 : List UInt8 := dkwX10_best_0 ++ dktX10_best_1
theorem dksX10_best_0 : cX10_best.data.toList.drop 0 = dktX10_best_0 := by decide +kernel
theorem dksX10_best_1 : cX10_best.data.toList.drop 24 = dktX10_best_1 := dk_seg dksX10_best_0 24 rfl rfl
theorem dksX10_best_2 : cX10_best.data.toList.drop 47 = dktX10_best_2 := dk_seg dksX10_best_1 23 rfl rfl
theorem dksX10_best_3 : cX10_best.data.toList.drop 70 = dktX10_best_3 := dk_seg dksX10_best_2 23 rfl rfl
theorem dksX10_best_4 : cX10_best.data.toList.drop 94 = dktX10_best_4 := dk_seg dksX10_best_3 24 rfl rfl
theorem dksX10_best_5 : cX10_best.data.toList.drop 116 = dktX10_best_5 := dk_seg dksX10_best_4 22 rfl rfl
theorem dksX10_best_6 : cX10_best.data.toList.drop 139 = dktX10_best_6 := dk_seg dksX10_best_5 23 rfl rfl
theorem dksX10_best_7 : cX10_best.data.toList.drop 161 = dktX10_best_7 := dk_seg dksX10_best_6 22 rfl rfl
theorem dksX10_best_8 : cX10_best.data.toList.drop 185 = dktX10_best_8 := dk_seg dksX10_best_7 24 rfl rfl
theorem dksX10_best_9 : cX10_best.data.toList.drop 209 = dktX10_best_9 := dk_seg dksX10_best_8 24 rfl rfl
theorem dX10_best_0 : decode cX10_best 0 = .ok (.aload_n 0, 1) := dk_42 (dk_at dksX10_best_0 0 rfl rfl)
theorem dX10_best_1 : decode cX10_best 1 = .ok (.iconst 0, 1) := dk_3 (dk_at dksX10_best_0 1 rfl rfl)
theorem dX10_best_2 : decode cX10_best 2 = .ok (.putfield 148, 3) := dk_181 0 148 (dk_at dksX10_best_0 2 rfl rfl)
theorem dX10_best_5 : decode cX10_best 5 = .ok (.aload_n 0, 1) := dk_42 (dk_at dksX10_best_0 5 rfl rfl)
theorem dX10_best_6 : decode cX10_best 6 = .ok (.iload_n 1, 1) := dk_27 (dk_at dksX10_best_0 6 rfl rfl)
theorem dX10_best_7 : decode cX10_best 7 = .ok (.invokevirtual 443, 3) := dk_182 1 187 (dk_at dksX10_best_0 7 rfl rfl)
theorem dX10_best_10 : decode cX10_best 10 = .ok (.ifCond .eq 21, 3) := dk_153 0 21 (dk_at dksX10_best_0 10 rfl rfl)
theorem dX10_best_13 : decode cX10_best 13 = .ok (.iload_n 2, 1) := dk_28 (dk_at dksX10_best_0 13 rfl rfl)
theorem dX10_best_14 : decode cX10_best 14 = .ok (.iconst 1, 1) := dk_4 (dk_at dksX10_best_0 14 rfl rfl)
theorem dX10_best_15 : decode cX10_best 15 = .ok (.iconst 2, 1) := dk_5 (dk_at dksX10_best_0 15 rfl rfl)
theorem dX10_best_16 : decode cX10_best 16 = .ok (.invokestatic 193, 3) := dk_184 0 193 (dk_at dksX10_best_0 16 rfl rfl)
theorem dX10_best_19 : decode cX10_best 19 = .ok (.ifCond .eq 12, 3) := dk_153 0 12 (dk_at dksX10_best_0 19 rfl rfl)
theorem dX10_best_22 : decode cX10_best 22 = .ok (.iload_n 3, 1) := dk_29 (dk_at dksX10_best_0 22 rfl rfl)
theorem dX10_best_23 : decode cX10_best 23 = .ok (.iconst 0, 1) := dk_3 (dk_at dksX10_best_0 23 rfl rfl)
theorem dX10_best_24 : decode cX10_best 24 = .ok (.iconst 2, 1) := dk_5 (dk_at dksX10_best_1 0 rfl rfl)
theorem dX10_best_25 : decode cX10_best 25 = .ok (.invokestatic 193, 3) := dk_184 0 193 (dk_at dksX10_best_1 1 rfl rfl)
theorem dX10_best_28 : decode cX10_best 28 = .ok (.ifCond .ne 5, 3) := dk_154 0 5 (dk_at dksX10_best_1 4 rfl rfl)
theorem dX10_best_31 : decode cX10_best 31 = .ok (.iconst (-1), 1) := dk_2 (dk_at dksX10_best_1 7 rfl rfl)
theorem dX10_best_32 : decode cX10_best 32 = .ok (.ireturn, 1) := dk_172 (dk_at dksX10_best_1 8 rfl rfl)
theorem dX10_best_33 : decode cX10_best 33 = .ok (.iconst (-1), 1) := dk_2 (dk_at dksX10_best_1 9 rfl rfl)
theorem dX10_best_34 : decode cX10_best 34 = .ok (.istore 4, 2) := dk_54 4 (dk_at dksX10_best_1 10 rfl rfl)
theorem dX10_best_36 : decode cX10_best 36 = .ok (.iconst 0, 1) := dk_3 (dk_at dksX10_best_1 12 rfl rfl)
theorem dX10_best_37 : decode cX10_best 37 = .ok (.istore 5, 2) := dk_54 5 (dk_at dksX10_best_1 13 rfl rfl)
theorem dX10_best_39 : decode cX10_best 39 = .ok (.iconst 0, 1) := dk_3 (dk_at dksX10_best_1 15 rfl rfl)
theorem dX10_best_40 : decode cX10_best 40 = .ok (.istore 6, 2) := dk_54 6 (dk_at dksX10_best_1 16 rfl rfl)
theorem dX10_best_42 : decode cX10_best 42 = .ok (.aload_n 0, 1) := dk_42 (dk_at dksX10_best_1 18 rfl rfl)
theorem dX10_best_43 : decode cX10_best 43 = .ok (.getfield 231, 3) := dk_180 0 231 (dk_at dksX10_best_1 19 rfl rfl)
theorem dX10_best_46 : decode cX10_best 46 = .ok (.aload_n 0, 1) := dk_42 (dk_at dksX10_best_1 22 rfl rfl)
theorem dX10_best_47 : decode cX10_best 47 = .ok (.getfield 234, 3) := dk_180 0 234 (dk_at dksX10_best_2 0 rfl rfl)
theorem dX10_best_50 : decode cX10_best 50 = .ok (.imul, 1) := dk_104 (dk_at dksX10_best_2 3 rfl rfl)
theorem dX10_best_51 : decode cX10_best 51 = .ok (.istore 7, 2) := dk_54 7 (dk_at dksX10_best_2 4 rfl rfl)
theorem dX10_best_53 : decode cX10_best 53 = .ok (.iconst 0, 1) := dk_3 (dk_at dksX10_best_2 6 rfl rfl)
theorem dX10_best_54 : decode cX10_best 54 = .ok (.istore 8, 2) := dk_54 8 (dk_at dksX10_best_2 7 rfl rfl)
theorem dX10_best_56 : decode cX10_best 56 = .ok (.iload 8, 2) := dk_21 8 (dk_at dksX10_best_2 9 rfl rfl)
theorem dX10_best_58 : decode cX10_best 58 = .ok (.iload 7, 2) := dk_21 7 (dk_at dksX10_best_2 11 rfl rfl)
theorem dX10_best_60 : decode cX10_best 60 = .ok (.if_icmp .ge 99, 3) := dk_162 0 99 (dk_at dksX10_best_2 13 rfl rfl)
theorem dX10_best_63 : decode cX10_best 63 = .ok (.iconst 0, 1) := dk_3 (dk_at dksX10_best_2 16 rfl rfl)
theorem dX10_best_64 : decode cX10_best 64 = .ok (.istore 9, 2) := dk_54 9 (dk_at dksX10_best_2 17 rfl rfl)
theorem dX10_best_66 : decode cX10_best 66 = .ok (.iload 9, 2) := dk_21 9 (dk_at dksX10_best_2 19 rfl rfl)
theorem dX10_best_68 : decode cX10_best 68 = .ok (.iload_n 2, 1) := dk_28 (dk_at dksX10_best_2 21 rfl rfl)
theorem dX10_best_69 : decode cX10_best 69 = .ok (.iconst 2, 1) := dk_5 (dk_at dksX10_best_2 22 rfl rfl)
theorem dX10_best_70 : decode cX10_best 70 = .ok (.if_icmp .ne 8, 3) := dk_160 0 8 (dk_at dksX10_best_3 0 rfl rfl)
theorem dX10_best_73 : decode cX10_best 73 = .ok (.iload 7, 2) := dk_21 7 (dk_at dksX10_best_3 3 rfl rfl)
theorem dX10_best_75 : decode cX10_best 75 = .ok (.goto 4, 3) := dk_167 0 4 (dk_at dksX10_best_3 5 rfl rfl)
theorem dX10_best_78 : decode cX10_best 78 = .ok (.iconst 1, 1) := dk_4 (dk_at dksX10_best_3 8 rfl rfl)
theorem dX10_best_79 : decode cX10_best 79 = .ok (.if_icmp .ge 74, 3) := dk_162 0 74 (dk_at dksX10_best_3 9 rfl rfl)
theorem dX10_best_82 : decode cX10_best 82 = .ok (.aload_n 0, 1) := dk_42 (dk_at dksX10_best_3 12 rfl rfl)
theorem dX10_best_83 : decode cX10_best 83 = .ok (.invokevirtual 470, 3) := dk_182 1 214 (dk_at dksX10_best_3 13 rfl rfl)
theorem dX10_best_86 : decode cX10_best 86 = .ok (.aload_n 0, 1) := dk_42 (dk_at dksX10_best_3 16 rfl rfl)
theorem dX10_best_87 : decode cX10_best 87 = .ok (.iload 7, 2) := dk_21 7 (dk_at dksX10_best_3 17 rfl rfl)
theorem dX10_best_89 : decode cX10_best 89 = .ok (.iload_n 1, 1) := dk_27 (dk_at dksX10_best_3 19 rfl rfl)
theorem dX10_best_90 : decode cX10_best 90 = .ok (.imul, 1) := dk_104 (dk_at dksX10_best_3 20 rfl rfl)
theorem dX10_best_91 : decode cX10_best 91 = .ok (.iload 8, 2) := dk_21 8 (dk_at dksX10_best_3 21 rfl rfl)
theorem dX10_best_93 : decode cX10_best 93 = .ok (.iadd, 1) := dk_96 (dk_at dksX10_best_3 23 rfl rfl)
theorem dX10_best_94 : decode cX10_best 94 = .ok (.invokevirtual 494, 3) := dk_182 1 238 (dk_at dksX10_best_4 0 rfl rfl)
theorem dX10_best_97 : decode cX10_best 97 = .ok (.ifCond .eq 50, 3) := dk_153 0 50 (dk_at dksX10_best_4 3 rfl rfl)
theorem dX10_best_100 : decode cX10_best 100 = .ok (.iload_n 2, 1) := dk_28 (dk_at dksX10_best_4 6 rfl rfl)
theorem dX10_best_101 : decode cX10_best 101 = .ok (.iconst 2, 1) := dk_5 (dk_at dksX10_best_4 7 rfl rfl)
theorem dX10_best_102 : decode cX10_best 102 = .ok (.if_icmp .ne 17, 3) := dk_160 0 17 (dk_at dksX10_best_4 8 rfl rfl)
theorem dX10_best_105 : decode cX10_best 105 = .ok (.aload_n 0, 1) := dk_42 (dk_at dksX10_best_4 11 rfl rfl)
theorem dX10_best_106 : decode cX10_best 106 = .ok (.iload 7, 2) := dk_21 7 (dk_at dksX10_best_4 12 rfl rfl)
theorem dX10_best_108 : decode cX10_best 108 = .ok (.iload_n 1, 1) := dk_27 (dk_at dksX10_best_4 14 rfl rfl)
theorem dX10_best_109 : decode cX10_best 109 = .ok (.imul, 1) := dk_104 (dk_at dksX10_best_4 15 rfl rfl)
theorem dX10_best_110 : decode cX10_best 110 = .ok (.iload 9, 2) := dk_21 9 (dk_at dksX10_best_4 16 rfl rfl)
theorem dX10_best_112 : decode cX10_best 112 = .ok (.iadd, 1) := dk_96 (dk_at dksX10_best_4 18 rfl rfl)
theorem dX10_best_113 : decode cX10_best 113 = .ok (.invokevirtual 494, 3) := dk_182 1 238 (dk_at dksX10_best_4 19 rfl rfl)
theorem dX10_best_116 : decode cX10_best 116 = .ok (.ifCond .eq 31, 3) := dk_153 0 31 (dk_at dksX10_best_5 0 rfl rfl)
theorem dX10_best_119 : decode cX10_best 119 = .ok (.aload_n 0, 1) := dk_42 (dk_at dksX10_best_5 3 rfl rfl)
theorem dX10_best_120 : decode cX10_best 120 = .ok (.iconst 1, 1) := dk_4 (dk_at dksX10_best_5 4 rfl rfl)
theorem dX10_best_121 : decode cX10_best 121 = .ok (.invokevirtual 467, 3) := dk_182 1 211 (dk_at dksX10_best_5 5 rfl rfl)
theorem dX10_best_124 : decode cX10_best 124 = .ok (.iload 4, 2) := dk_21 4 (dk_at dksX10_best_5 8 rfl rfl)
theorem dX10_best_126 : decode cX10_best 126 = .ok (.if_icmp .gt 6, 3) := dk_163 0 6 (dk_at dksX10_best_5 10 rfl rfl)
theorem dX10_best_129 : decode cX10_best 129 = .ok (.goto 18, 3) := dk_167 0 18 (dk_at dksX10_best_5 13 rfl rfl)
theorem dX10_best_132 : decode cX10_best 132 = .ok (.aload_n 0, 1) := dk_42 (dk_at dksX10_best_5 16 rfl rfl)
theorem dX10_best_133 : decode cX10_best 133 = .ok (.iconst 1, 1) := dk_4 (dk_at dksX10_best_5 17 rfl rfl)
theorem dX10_best_134 : decode cX10_best 134 = .ok (.invokevirtual 467, 3) := dk_182 1 211 (dk_at dksX10_best_5 18 rfl rfl)
theorem dX10_best_137 : decode cX10_best 137 = .ok (.istore 4, 2) := dk_54 4 (dk_at dksX10_best_5 21 rfl rfl)
theorem dX10_best_139 : decode cX10_best 139 = .ok (.iload 8, 2) := dk_21 8 (dk_at dksX10_best_6 0 rfl rfl)
theorem dX10_best_141 : decode cX10_best 141 = .ok (.istore 5, 2) := dk_54 5 (dk_at dksX10_best_6 2 rfl rfl)
theorem dX10_best_143 : decode cX10_best 143 = .ok (.iload 9, 2) := dk_21 9 (dk_at dksX10_best_6 4 rfl rfl)
theorem dX10_best_145 : decode cX10_best 145 = .ok (.istore 6, 2) := dk_54 6 (dk_at dksX10_best_6 6 rfl rfl)
theorem dX10_best_147 : decode cX10_best 147 = .ok (.iinc 9 1, 3) := dk_132 9 1 (dk_at dksX10_best_6 8 rfl rfl)
theorem dX10_best_150 : decode cX10_best 150 = .ok (.goto (-84), 3) := dk_167 255 172 (dk_at dksX10_best_6 11 rfl rfl)
theorem dX10_best_153 : decode cX10_best 153 = .ok (.iinc 8 1, 3) := dk_132 8 1 (dk_at dksX10_best_6 14 rfl rfl)
theorem dX10_best_156 : decode cX10_best 156 = .ok (.goto (-100), 3) := dk_167 255 156 (dk_at dksX10_best_6 17 rfl rfl)
theorem dX10_best_159 : decode cX10_best 159 = .ok (.iload 4, 2) := dk_21 4 (dk_at dksX10_best_6 20 rfl rfl)
theorem dX10_best_161 : decode cX10_best 161 = .ok (.ifCond .ge 6, 3) := dk_156 0 6 (dk_at dksX10_best_7 0 rfl rfl)
theorem dX10_best_164 : decode cX10_best 164 = .ok (.bipush (-3), 2) := dk_16 253 (dk_at dksX10_best_7 3 rfl rfl)
theorem dX10_best_166 : decode cX10_best 166 = .ok (.ireturn, 1) := dk_172 (dk_at dksX10_best_7 5 rfl rfl)
theorem dX10_best_167 : decode cX10_best 167 = .ok (.iload_n 3, 1) := dk_29 (dk_at dksX10_best_7 6 rfl rfl)
theorem dX10_best_168 : decode cX10_best 168 = .ok (.iconst 1, 1) := dk_4 (dk_at dksX10_best_7 7 rfl rfl)
theorem dX10_best_169 : decode cX10_best 169 = .ok (.if_icmp .ne 8, 3) := dk_160 0 8 (dk_at dksX10_best_7 8 rfl rfl)
theorem dX10_best_172 : decode cX10_best 172 = .ok (.iload 5, 2) := dk_21 5 (dk_at dksX10_best_7 11 rfl rfl)
theorem dX10_best_174 : decode cX10_best 174 = .ok (.goto 5, 3) := dk_167 0 5 (dk_at dksX10_best_7 13 rfl rfl)
theorem dX10_best_177 : decode cX10_best 177 = .ok (.iload 6, 2) := dk_21 6 (dk_at dksX10_best_7 16 rfl rfl)
theorem dX10_best_179 : decode cX10_best 179 = .ok (.istore 8, 2) := dk_54 8 (dk_at dksX10_best_7 18 rfl rfl)
theorem dX10_best_181 : decode cX10_best 181 = .ok (.iload_n 3, 1) := dk_29 (dk_at dksX10_best_7 20 rfl rfl)
theorem dX10_best_182 : decode cX10_best 182 = .ok (.ifCond .ne 8, 3) := dk_154 0 8 (dk_at dksX10_best_7 21 rfl rfl)
theorem dX10_best_185 : decode cX10_best 185 = .ok (.iload 4, 2) := dk_21 4 (dk_at dksX10_best_8 0 rfl rfl)
theorem dX10_best_187 : decode cX10_best 187 = .ok (.goto 31, 3) := dk_167 0 31 (dk_at dksX10_best_8 2 rfl rfl)
theorem dX10_best_190 : decode cX10_best 190 = .ok (.iload_n 3, 1) := dk_29 (dk_at dksX10_best_8 5 rfl rfl)
theorem dX10_best_191 : decode cX10_best 191 = .ok (.iload_n 2, 1) := dk_28 (dk_at dksX10_best_8 6 rfl rfl)
theorem dX10_best_192 : decode cX10_best 192 = .ok (.if_icmp .le 8, 3) := dk_164 0 8 (dk_at dksX10_best_8 7 rfl rfl)
theorem dX10_best_195 : decode cX10_best 195 = .ok (.bipush (-2), 2) := dk_16 254 (dk_at dksX10_best_8 10 rfl rfl)
theorem dX10_best_197 : decode cX10_best 197 = .ok (.goto 21, 3) := dk_167 0 21 (dk_at dksX10_best_8 12 rfl rfl)
theorem dX10_best_200 : decode cX10_best 200 = .ok (.bipush 10, 2) := dk_16 10 (dk_at dksX10_best_8 15 rfl rfl)
theorem dX10_best_202 : decode cX10_best 202 = .ok (.iload 8, 2) := dk_21 8 (dk_at dksX10_best_8 17 rfl rfl)
theorem dX10_best_204 : decode cX10_best 204 = .ok (.aload_n 0, 1) := dk_42 (dk_at dksX10_best_8 19 rfl rfl)
theorem dX10_best_205 : decode cX10_best 205 = .ok (.getfield 234, 3) := dk_180 0 234 (dk_at dksX10_best_8 20 rfl rfl)
theorem dX10_best_208 : decode cX10_best 208 = .ok (.idiv, 1) := dk_108 (dk_at dksX10_best_8 23 rfl rfl)
theorem dX10_best_209 : decode cX10_best 209 = .ok (.imul, 1) := dk_104 (dk_at dksX10_best_9 0 rfl rfl)
theorem dX10_best_210 : decode cX10_best 210 = .ok (.iload 8, 2) := dk_21 8 (dk_at dksX10_best_9 1 rfl rfl)
theorem dX10_best_212 : decode cX10_best 212 = .ok (.aload_n 0, 1) := dk_42 (dk_at dksX10_best_9 3 rfl rfl)
theorem dX10_best_213 : decode cX10_best 213 = .ok (.getfield 234, 3) := dk_180 0 234 (dk_at dksX10_best_9 4 rfl rfl)
theorem dX10_best_216 : decode cX10_best 216 = .ok (.irem, 1) := dk_112 (dk_at dksX10_best_9 7 rfl rfl)
theorem dX10_best_217 : decode cX10_best 217 = .ok (.iadd, 1) := dk_96 (dk_at dksX10_best_9 8 rfl rfl)
theorem dX10_best_218 : decode cX10_best 218 = .ok (.ireturn, 1) := dk_172 (dk_at dksX10_best_9 9 rfl rfl)
def dkwX10_rests_1 : List UInt8 := [2, 172]
abbrev dktX10_rests_1 : List UInt8 := dkwX10_rests_1 ++ []
def dkwX10_rests_0 : List UInt8 := [42, 3, 181, 0, 148, 42, 27, 28, 182, 2, 1, 153, 0, 13, 42, 27, 28, 2, 182, 2, 4, 167, 0, 4]
abbrev dktX10_rests_0 : List UInt8 := dkwX10_rests_0 ++ dktX10_rests_1
theorem dksX10_rests_0 : cX10_rests.data.toList.drop 0 = dktX10_rests_0 := by decide +kernel
theorem dksX10_rests_1 : cX10_rests.data.toList.drop 24 = dktX10_rests_1 := dk_seg dksX10_rests_0 24 rfl rfl
theorem dX10_rests_0 : decode cX10_rests 0 = .ok (.aload_n 0, 1) := dk_42 (dk_at dksX10_rests_0 0 rfl rfl)
theorem dX10_rests_1 : decode cX10_rests 1 = .ok (.iconst 0, 1) := dk_3 (dk_at dksX10_rests_0 1 rfl rfl)
theorem dX10_rests_2 : decode cX10_rests 2 = .ok (.putfield 148, 3) := dk_181 0 148 (dk_at dksX10_rests_0 2 rfl rfl)
theorem dX10_rests_5 : decode cX10_rests 5 = .ok (.aload_n 0, 1) := dk_42 (dk_at dksX10_rests_0 5 rfl rfl)
theorem dX10_rests_6 : decode cX10_rests 6 = .ok (.iload_n 1, 1) := dk_27 (dk_at dksX10_rests_0 6 rfl rfl)
theorem dX10_rests_7 : decode cX10_rests 7 = .ok (.iload_n 2, 1) := dk_28 (dk_at dksX10_rests_0 7 rfl rfl)
theorem dX10_rests_8 : decode cX10_rests 8 = .ok (.invokevirtual 513, 3) := dk_182 2 1 (dk_at dksX10_rests_0 8 rfl rfl)
theorem dX10_rests_11 : decode cX10_rests 11 = .ok (.ifCond .eq 13, 3) := dk_153 0 13 (dk_at dksX10_rests_0 11 rfl rfl)
theorem dX10_rests_14 : decode cX10_rests 14 = .ok (.aload_n 0, 1) := dk_42 (dk_at dksX10_rests_0 14 rfl rfl)
theorem dX10_rests_15 : decode cX10_rests 15 = .ok (.iload_n 1, 1) := dk_27 (dk_at dksX10_rests_0 15 rfl rfl)
theorem dX10_rests_16 : decode cX10_rests 16 = .ok (.iload_n 2, 1) := dk_28 (dk_at dksX10_rests_0 16 rfl rfl)
theorem dX10_rests_17 : decode cX10_rests 17 = .ok (.iconst (-1), 1) := dk_2 (dk_at dksX10_rests_0 17 rfl rfl)
theorem dX10_rests_18 : decode cX10_rests 18 = .ok (.invokevirtual 516, 3) := dk_182 2 4 (dk_at dksX10_rests_0 18 rfl rfl)
theorem dX10_rests_21 : decode cX10_rests 21 = .ok (.goto 4, 3) := dk_167 0 4 (dk_at dksX10_rests_0 21 rfl rfl)
theorem dX10_rests_24 : decode cX10_rests 24 = .ok (.iconst (-1), 1) := dk_2 (dk_at dksX10_rests_1 0 rfl rfl)
theorem dX10_rests_25 : decode cX10_rests 25 = .ok (.ireturn, 1) := dk_172 (dk_at dksX10_rests_1 1 rfl rfl)
def dkwX10_areTwo_1 : List UInt8 := [180, 0, 106, 27, 46, 42, 180, 0, 106, 28, 46, 160, 0, 7, 4, 167, 0, 4, 3, 172]
abbrev dktX10_areTwo_1 : List UInt8 := dkwX10_areTwo_1 ++ []
def dkwX10_areTwo_0 : List UInt8 := [42, 27, 182, 1, 187, 153, 0, 35, 42, 28, 182, 1, 187, 153, 0, 27, 27, 28, 159, 0, 22, 42]
abbrev dktX10_areTwo_0 : List UInt8 := dkwX10_areTwo_0 ++ dktX10_areTwo_1
theorem dksX10_areTwo_0 : cX10_areTwo.data.toList.drop 0 = dktX10_areTwo_0 := by decide +kernel
theorem dksX10_areTwo_1 : cX10_areTwo.data.toList.drop 22 = dktX10_areTwo_1 := dk_seg dksX10_areTwo_0 22 rfl rfl
theorem dX10_areTwo_0 : decode cX10_areTwo 0 = .ok (.aload_n 0, 1) := dk_42 (dk_at dksX10_areTwo_0 0 rfl rfl)
theorem dX10_areTwo_1 : decode cX10_areTwo 1 = .ok (.iload_n 1, 1) := dk_27 (dk_at dksX10_areTwo_0 1 rfl rfl)
theorem dX10_areTwo_2 : decode cX10_areTwo 2 = .ok (.invokevirtual 443, 3) := dk_182 1 187 (dk_at dksX10_areTwo_0 2 rfl rfl)
theorem dX10_areTwo_5 : decode cX10_areTwo 5 = .ok (.ifCond .eq 35, 3) := dk_153 0 35 (dk_at dksX10_areTwo_0 5 rfl rfl)
theorem dX10_areTwo_8 : decode cX10_areTwo 8 = .ok (.aload_n 0, 1) := dk_42 (dk_at dksX10_areTwo_0 8 rfl rfl)
theorem dX10_areTwo_9 : decode cX10_areTwo 9 = .ok (.iload_n 2, 1) := dk_28 (dk_at dksX10_areTwo_0 9 rfl rfl)
theorem dX10_areTwo_10 : decode cX10_areTwo 10 = .ok (.invokevirtual 443, 3) := dk_182 1 187 (dk_at dksX10_areTwo_0 10 rfl rfl)
theorem dX10_areTwo_13 : decode cX10_areTwo 13 = .ok (.ifCond .eq 27, 3) := dk_153 0 27 (dk_at dksX10_areTwo_0 13 rfl rfl)
theorem dX10_areTwo_16 : decode cX10_areTwo 16 = .ok (.iload_n 1, 1) := dk_27 (dk_at dksX10_areTwo_0 16 rfl rfl)
theorem dX10_areTwo_17 : decode cX10_areTwo 17 = .ok (.iload_n 2, 1) := dk_28 (dk_at dksX10_areTwo_0 17 rfl rfl)
theorem dX10_areTwo_18 : decode cX10_areTwo 18 = .ok (.if_icmp .eq 22, 3) := dk_159 0 22 (dk_at dksX10_areTwo_0 18 rfl rfl)
theorem dX10_areTwo_21 : decode cX10_areTwo 21 = .ok (.aload_n 0, 1) := dk_42 (dk_at dksX10_areTwo_0 21 rfl rfl)
theorem dX10_areTwo_22 : decode cX10_areTwo 22 = .ok (.getfield 106, 3) := dk_180 0 106 (dk_at dksX10_areTwo_1 0 rfl rfl)
theorem dX10_areTwo_25 : decode cX10_areTwo 25 = .ok (.iload_n 1, 1) := dk_27 (dk_at dksX10_areTwo_1 3 rfl rfl)
theorem dX10_areTwo_26 : decode cX10_areTwo 26 = .ok (.iaload, 1) := dk_46 (dk_at dksX10_areTwo_1 4 rfl rfl)
theorem dX10_areTwo_27 : decode cX10_areTwo 27 = .ok (.aload_n 0, 1) := dk_42 (dk_at dksX10_areTwo_1 5 rfl rfl)
theorem dX10_areTwo_28 : decode cX10_areTwo 28 = .ok (.getfield 106, 3) := dk_180 0 106 (dk_at dksX10_areTwo_1 6 rfl rfl)
theorem dX10_areTwo_31 : decode cX10_areTwo 31 = .ok (.iload_n 2, 1) := dk_28 (dk_at dksX10_areTwo_1 9 rfl rfl)
theorem dX10_areTwo_32 : decode cX10_areTwo 32 = .ok (.iaload, 1) := dk_46 (dk_at dksX10_areTwo_1 10 rfl rfl)
theorem dX10_areTwo_33 : decode cX10_areTwo 33 = .ok (.if_icmp .ne 7, 3) := dk_160 0 7 (dk_at dksX10_areTwo_1 11 rfl rfl)
theorem dX10_areTwo_36 : decode cX10_areTwo 36 = .ok (.iconst 1, 1) := dk_4 (dk_at dksX10_areTwo_1 14 rfl rfl)
theorem dX10_areTwo_37 : decode cX10_areTwo 37 = .ok (.goto 4, 3) := dk_167 0 4 (dk_at dksX10_areTwo_1 15 rfl rfl)
theorem dX10_areTwo_40 : decode cX10_areTwo 40 = .ok (.iconst 0, 1) := dk_3 (dk_at dksX10_areTwo_1 18 rfl rfl)
theorem dX10_areTwo_41 : decode cX10_areTwo 41 = .ok (.ireturn, 1) := dk_172 (dk_at dksX10_areTwo_1 19 rfl rfl)
def dkwX10_restAt_12 : List UInt8 := [132, 5, 1, 132, 6, 1, 167, 255, 128, 29, 156, 0, 8, 21, 5, 167, 0, 5, 16, 254, 172]
abbrev dktX10_restAt_12 : List UInt8 := dkwX10_restAt_12 ++ []
def dkwX10_restAt_11 : List UInt8 := [167, 0, 27, 21, 5, 29, 160, 0, 18, 16, 100, 21, 6, 21, 4, 108, 104, 21, 6, 21, 4, 112, 96, 172]
abbrev dktX10_restAt_11 : List UInt8 := dkwX10_restAt_11 ++ dktX10_restAt_12
def dkwX10_restAt_10 : List UInt8 := [21, 6, 46, 163, 0, 7, 4, 167, 0, 4, 3, 54, 7, 132, 8, 1, 167, 255, 182, 21, 7, 154, 0, 6]
abbrev dktX10_restAt_10 : List UInt8 := dkwX10_restAt_10 ++ dktX10_restAt_11
def dkwX10_restAt_9 : List UInt8 := [163, 0, 33, 42, 180, 0, 121, 21, 6, 21, 4, 108, 21, 4, 104, 21, 8, 96, 46, 42, 180, 0, 121]
abbrev dktX10_restAt_9 : List UInt8 := dkwX10_restAt_9 ++ dktX10_restAt_10
def dkwX10_restAt_8 : List UInt8 := [42, 180, 0, 118, 21, 4, 21, 8, 104, 21, 6, 21, 4, 112, 96, 46, 42, 180, 0, 118, 21, 6, 46]
abbrev dktX10_restAt_8 : List UInt8 := dkwX10_restAt_8 ++ dktX10_restAt_9
def dkwX10_restAt_7 : List UInt8 := [21, 4, 104, 162, 0, 124, 4, 54, 7, 3, 54, 8, 21, 8, 21, 4, 162, 0, 73, 21, 7, 153, 0, 59]
abbrev dktX10_restAt_7 : List UInt8 := dkwX10_restAt_7 ++ dktX10_restAt_8
def dkwX10_restAt_6 : List UInt8 := [21, 5, 42, 28, 182, 1, 254, 79, 132, 5, 1, 167, 255, 117, 3, 54, 5, 3, 54, 6, 21, 6, 21, 4]
abbrev dktX10_restAt_6 : List UInt8 := dkwX10_restAt_6 ++ dktX10_restAt_7
def dkwX10_restAt_5 : List UInt8 := [4, 167, 0, 4, 3, 54, 6, 42, 180, 0, 118, 21, 5, 42, 27, 182, 1, 254, 79, 42, 180, 0, 121]
abbrev dktX10_restAt_5 : List UInt8 := dkwX10_restAt_5 ++ dktX10_restAt_6
def dkwX10_restAt_4 : List UInt8 := [21, 4, 112, 182, 1, 196, 153, 0, 22, 42, 4, 28, 27, 21, 5, 21, 4, 112, 182, 1, 205, 153, 0, 7]
abbrev dktX10_restAt_4 : List UInt8 := dkwX10_restAt_4 ++ dktX10_restAt_5
def dkwX10_restAt_3 : List UInt8 := [167, 0, 4, 3, 54, 6, 21, 5, 21, 4, 112, 42, 180, 0, 234, 162, 0, 37, 42, 4, 28, 27, 21, 5]
abbrev dktX10_restAt_3 : List UInt8 := dkwX10_restAt_3 ++ dktX10_restAt_4
def dkwX10_restAt_2 : List UInt8 := [182, 1, 196, 153, 0, 22, 42, 4, 27, 28, 21, 5, 21, 4, 108, 182, 1, 205, 153, 0, 7, 4]
abbrev dktX10_restAt_2 : List UInt8 := dkwX10_restAt_2 ++ dktX10_restAt_3
def dkwX10_restAt_1 : List UInt8 := [182, 1, 214, 21, 5, 21, 4, 108, 42, 180, 0, 234, 162, 0, 37, 42, 4, 27, 28, 21, 5, 21, 4, 108]
abbrev dktX10_restAt_1 : List UInt8 := dkwX10_restAt_1 ++ dktX10_restAt_2
def dkwX10_restAt_0 : List UInt8 := [42, 180, 0, 234, 4, 96, 54, 4, 3, 54, 5, 21, 5, 21, 4, 21, 4, 104, 162, 0, 135, 42]
abbrev dktX10_restAt_0 : List UInt8 := dkwX10_restAt_0 ++ dktX10_restAt_1
theorem dksX10_restAt_0 : cX10_restAt.data.toList.drop 0 = dktX10_restAt_0 := by decide +kernel
theorem dksX10_restAt_1 : cX10_restAt.data.toList.drop 22 = dktX10_restAt_1 := dk_seg dksX10_restAt_0 22 rfl rfl
theorem dksX10_restAt_2 : cX10_restAt.data.toList.drop 46 = dktX10_restAt_2 := dk_seg dksX10_restAt_1 24 rfl rfl
theorem dksX10_restAt_3 : cX10_restAt.data.toList.drop 68 = dktX10_restAt_3 := dk_seg dksX10_restAt_2 22 rfl rfl
theorem dksX10_restAt_4 : cX10_restAt.data.toList.drop 92 = dktX10_restAt_4 := dk_seg dksX10_restAt_3 24 rfl rfl
theorem dksX10_restAt_5 : cX10_restAt.data.toList.drop 116 = dktX10_restAt_5 := dk_seg dksX10_restAt_4 24 rfl rfl
theorem dksX10_restAt_6 : cX10_restAt.data.toList.drop 139 = dktX10_restAt_6 := dk_seg dksX10_restAt_5 23 rfl rfl
theorem dksX10_restAt_7 : cX10_restAt.data.toList.drop 163 = dktX10_restAt_7 := dk_seg dksX10_restAt_6 24 rfl rfl
theorem dksX10_restAt_8 : cX10_restAt.data.toList.drop 187 = dktX10_restAt_8 := dk_seg dksX10_restAt_7 24 rfl rfl
theorem dksX10_restAt_9 : cX10_restAt.data.toList.drop 210 = dktX10_restAt_9 := dk_seg dksX10_restAt_8 23 rfl rfl
theorem dksX10_restAt_10 : cX10_restAt.data.toList.drop 233 = dktX10_restAt_10 := dk_seg dksX10_restAt_9 23 rfl rfl
theorem dksX10_restAt_11 : cX10_restAt.data.toList.drop 257 = dktX10_restAt_11 := dk_seg dksX10_restAt_10 24 rfl rfl
theorem dksX10_restAt_12 : cX10_restAt.data.toList.drop 281 = dktX10_restAt_12 := dk_seg dksX10_restAt_11 24 rfl rfl
theorem dX10_restAt_0 : decode cX10_restAt 0 = .ok (.aload_n 0, 1) := dk_42 (dk_at dksX10_restAt_0 0 rfl rfl)
theorem dX10_restAt_1 : decode cX10_restAt 1 = .ok (.getfield 234, 3) := dk_180 0 234 (dk_at dksX10_restAt_0 1 rfl rfl)
theorem dX10_restAt_4 : decode cX10_restAt 4 = .ok (.iconst 1, 1) := dk_4 (dk_at dksX10_restAt_0 4 rfl rfl)
theorem dX10_restAt_5 : decode cX10_restAt 5 = .ok (.iadd, 1) := dk_96 (dk_at dksX10_restAt_0 5 rfl rfl)
theorem dX10_restAt_6 : decode cX10_restAt 6 = .ok (.istore 4, 2) := dk_54 4 (dk_at dksX10_restAt_0 6 rfl rfl)
theorem dX10_restAt_8 : decode cX10_restAt 8 = .ok (.iconst 0, 1) := dk_3 (dk_at dksX10_restAt_0 8 rfl rfl)
theorem dX10_restAt_9 : decode cX10_restAt 9 = .ok (.istore 5, 2) := dk_54 5 (dk_at dksX10_restAt_0 9 rfl rfl)
theorem dX10_restAt_11 : decode cX10_restAt 11 = .ok (.iload 5, 2) := dk_21 5 (dk_at dksX10_restAt_0 11 rfl rfl)
theorem dX10_restAt_13 : decode cX10_restAt 13 = .ok (.iload 4, 2) := dk_21 4 (dk_at dksX10_restAt_0 13 rfl rfl)
theorem dX10_restAt_15 : decode cX10_restAt 15 = .ok (.iload 4, 2) := dk_21 4 (dk_at dksX10_restAt_0 15 rfl rfl)
theorem dX10_restAt_17 : decode cX10_restAt 17 = .ok (.imul, 1) := dk_104 (dk_at dksX10_restAt_0 17 rfl rfl)
theorem dX10_restAt_18 : decode cX10_restAt 18 = .ok (.if_icmp .ge 135, 3) := dk_162 0 135 (dk_at dksX10_restAt_0 18 rfl rfl)
theorem dX10_restAt_21 : decode cX10_restAt 21 = .ok (.aload_n 0, 1) := dk_42 (dk_at dksX10_restAt_0 21 rfl rfl)
theorem dX10_restAt_22 : decode cX10_restAt 22 = .ok (.invokevirtual 470, 3) := dk_182 1 214 (dk_at dksX10_restAt_1 0 rfl rfl)
theorem dX10_restAt_25 : decode cX10_restAt 25 = .ok (.iload 5, 2) := dk_21 5 (dk_at dksX10_restAt_1 3 rfl rfl)
theorem dX10_restAt_27 : decode cX10_restAt 27 = .ok (.iload 4, 2) := dk_21 4 (dk_at dksX10_restAt_1 5 rfl rfl)
theorem dX10_restAt_29 : decode cX10_restAt 29 = .ok (.idiv, 1) := dk_108 (dk_at dksX10_restAt_1 7 rfl rfl)
theorem dX10_restAt_30 : decode cX10_restAt 30 = .ok (.aload_n 0, 1) := dk_42 (dk_at dksX10_restAt_1 8 rfl rfl)
theorem dX10_restAt_31 : decode cX10_restAt 31 = .ok (.getfield 234, 3) := dk_180 0 234 (dk_at dksX10_restAt_1 9 rfl rfl)
theorem dX10_restAt_34 : decode cX10_restAt 34 = .ok (.if_icmp .ge 37, 3) := dk_162 0 37 (dk_at dksX10_restAt_1 12 rfl rfl)
theorem dX10_restAt_37 : decode cX10_restAt 37 = .ok (.aload_n 0, 1) := dk_42 (dk_at dksX10_restAt_1 15 rfl rfl)
theorem dX10_restAt_38 : decode cX10_restAt 38 = .ok (.iconst 1, 1) := dk_4 (dk_at dksX10_restAt_1 16 rfl rfl)
theorem dX10_restAt_39 : decode cX10_restAt 39 = .ok (.iload_n 1, 1) := dk_27 (dk_at dksX10_restAt_1 17 rfl rfl)
theorem dX10_restAt_40 : decode cX10_restAt 40 = .ok (.iload_n 2, 1) := dk_28 (dk_at dksX10_restAt_1 18 rfl rfl)
theorem dX10_restAt_41 : decode cX10_restAt 41 = .ok (.iload 5, 2) := dk_21 5 (dk_at dksX10_restAt_1 19 rfl rfl)
theorem dX10_restAt_43 : decode cX10_restAt 43 = .ok (.iload 4, 2) := dk_21 4 (dk_at dksX10_restAt_1 21 rfl rfl)
theorem dX10_restAt_45 : decode cX10_restAt 45 = .ok (.idiv, 1) := dk_108 (dk_at dksX10_restAt_1 23 rfl rfl)
theorem dX10_restAt_46 : decode cX10_restAt 46 = .ok (.invokevirtual 452, 3) := dk_182 1 196 (dk_at dksX10_restAt_2 0 rfl rfl)
theorem dX10_restAt_49 : decode cX10_restAt 49 = .ok (.ifCond .eq 22, 3) := dk_153 0 22 (dk_at dksX10_restAt_2 3 rfl rfl)
theorem dX10_restAt_52 : decode cX10_restAt 52 = .ok (.aload_n 0, 1) := dk_42 (dk_at dksX10_restAt_2 6 rfl rfl)
theorem dX10_restAt_53 : decode cX10_restAt 53 = .ok (.iconst 1, 1) := dk_4 (dk_at dksX10_restAt_2 7 rfl rfl)
theorem dX10_restAt_54 : decode cX10_restAt 54 = .ok (.iload_n 1, 1) := dk_27 (dk_at dksX10_restAt_2 8 rfl rfl)
theorem dX10_restAt_55 : decode cX10_restAt 55 = .ok (.iload_n 2, 1) := dk_28 (dk_at dksX10_restAt_2 9 rfl rfl)
theorem dX10_restAt_56 : decode cX10_restAt 56 = .ok (.iload 5, 2) := dk_21 5 (dk_at dksX10_restAt_2 10 rfl rfl)
theorem dX10_restAt_58 : decode cX10_restAt 58 = .ok (.iload 4, 2) := dk_21 4 (dk_at dksX10_restAt_2 12 rfl rfl)
theorem dX10_restAt_60 : decode cX10_restAt 60 = .ok (.idiv, 1) := dk_108 (dk_at dksX10_restAt_2 14 rfl rfl)
theorem dX10_restAt_61 : decode cX10_restAt 61 = .ok (.invokevirtual 461, 3) := dk_182 1 205 (dk_at dksX10_restAt_2 15 rfl rfl)
theorem dX10_restAt_64 : decode cX10_restAt 64 = .ok (.ifCond .eq 7, 3) := dk_153 0 7 (dk_at dksX10_restAt_2 18 rfl rfl)
theorem dX10_restAt_67 : decode cX10_restAt 67 = .ok (.iconst 1, 1) := dk_4 (dk_at dksX10_restAt_2 21 rfl rfl)
theorem dX10_restAt_68 : decode cX10_restAt 68 = .ok (.goto 4, 3) := dk_167 0 4 (dk_at dksX10_restAt_3 0 rfl rfl)
theorem dX10_restAt_71 : decode cX10_restAt 71 = .ok (.iconst 0, 1) := dk_3 (dk_at dksX10_restAt_3 3 rfl rfl)
theorem dX10_restAt_72 : decode cX10_restAt 72 = .ok (.istore 6, 2) := dk_54 6 (dk_at dksX10_restAt_3 4 rfl rfl)
theorem dX10_restAt_74 : decode cX10_restAt 74 = .ok (.iload 5, 2) := dk_21 5 (dk_at dksX10_restAt_3 6 rfl rfl)
theorem dX10_restAt_76 : decode cX10_restAt 76 = .ok (.iload 4, 2) := dk_21 4 (dk_at dksX10_restAt_3 8 rfl rfl)
theorem dX10_restAt_78 : decode cX10_restAt 78 = .ok (.irem, 1) := dk_112 (dk_at dksX10_restAt_3 10 rfl rfl)
theorem dX10_restAt_79 : decode cX10_restAt 79 = .ok (.aload_n 0, 1) := dk_42 (dk_at dksX10_restAt_3 11 rfl rfl)
theorem dX10_restAt_80 : decode cX10_restAt 80 = .ok (.getfield 234, 3) := dk_180 0 234 (dk_at dksX10_restAt_3 12 rfl rfl)
theorem dX10_restAt_83 : decode cX10_restAt 83 = .ok (.if_icmp .ge 37, 3) := dk_162 0 37 (dk_at dksX10_restAt_3 15 rfl rfl)
theorem dX10_restAt_86 : decode cX10_restAt 86 = .ok (.aload_n 0, 1) := dk_42 (dk_at dksX10_restAt_3 18 rfl rfl)
theorem dX10_restAt_87 : decode cX10_restAt 87 = .ok (.iconst 1, 1) := dk_4 (dk_at dksX10_restAt_3 19 rfl rfl)
theorem dX10_restAt_88 : decode cX10_restAt 88 = .ok (.iload_n 2, 1) := dk_28 (dk_at dksX10_restAt_3 20 rfl rfl)
theorem dX10_restAt_89 : decode cX10_restAt 89 = .ok (.iload_n 1, 1) := dk_27 (dk_at dksX10_restAt_3 21 rfl rfl)
theorem dX10_restAt_90 : decode cX10_restAt 90 = .ok (.iload 5, 2) := dk_21 5 (dk_at dksX10_restAt_3 22 rfl rfl)
theorem dX10_restAt_92 : decode cX10_restAt 92 = .ok (.iload 4, 2) := dk_21 4 (dk_at dksX10_restAt_4 0 rfl rfl)
theorem dX10_restAt_94 : decode cX10_restAt 94 = .ok (.irem, 1) := dk_112 (dk_at dksX10_restAt_4 2 rfl rfl)
theorem dX10_restAt_95 : decode cX10_restAt 95 = .ok (.invokevirtual 452, 3) := dk_182 1 196 (dk_at dksX10_restAt_4 3 rfl rfl)
theorem dX10_restAt_98 : decode cX10_restAt 98 = .ok (.ifCond .eq 22, 3) := dk_153 0 22 (dk_at dksX10_restAt_4 6 rfl rfl)
theorem dX10_restAt_101 : decode cX10_restAt 101 = .ok (.aload_n 0, 1) := dk_42 (dk_at dksX10_restAt_4 9 rfl rfl)
theorem dX10_restAt_102 : decode cX10_restAt 102 = .ok (.iconst 1, 1) := dk_4 (dk_at dksX10_restAt_4 10 rfl rfl)
theorem dX10_restAt_103 : decode cX10_restAt 103 = .ok (.iload_n 2, 1) := dk_28 (dk_at dksX10_restAt_4 11 rfl rfl)
theorem dX10_restAt_104 : decode cX10_restAt 104 = .ok (.iload_n 1, 1) := dk_27 (dk_at dksX10_restAt_4 12 rfl rfl)
theorem dX10_restAt_105 : decode cX10_restAt 105 = .ok (.iload 5, 2) := dk_21 5 (dk_at dksX10_restAt_4 13 rfl rfl)
theorem dX10_restAt_107 : decode cX10_restAt 107 = .ok (.iload 4, 2) := dk_21 4 (dk_at dksX10_restAt_4 15 rfl rfl)
theorem dX10_restAt_109 : decode cX10_restAt 109 = .ok (.irem, 1) := dk_112 (dk_at dksX10_restAt_4 17 rfl rfl)
theorem dX10_restAt_110 : decode cX10_restAt 110 = .ok (.invokevirtual 461, 3) := dk_182 1 205 (dk_at dksX10_restAt_4 18 rfl rfl)
theorem dX10_restAt_113 : decode cX10_restAt 113 = .ok (.ifCond .eq 7, 3) := dk_153 0 7 (dk_at dksX10_restAt_4 21 rfl rfl)
theorem dX10_restAt_116 : decode cX10_restAt 116 = .ok (.iconst 1, 1) := dk_4 (dk_at dksX10_restAt_5 0 rfl rfl)
theorem dX10_restAt_117 : decode cX10_restAt 117 = .ok (.goto 4, 3) := dk_167 0 4 (dk_at dksX10_restAt_5 1 rfl rfl)
theorem dX10_restAt_120 : decode cX10_restAt 120 = .ok (.iconst 0, 1) := dk_3 (dk_at dksX10_restAt_5 4 rfl rfl)
theorem dX10_restAt_121 : decode cX10_restAt 121 = .ok (.istore 6, 2) := dk_54 6 (dk_at dksX10_restAt_5 5 rfl rfl)
theorem dX10_restAt_123 : decode cX10_restAt 123 = .ok (.aload_n 0, 1) := dk_42 (dk_at dksX10_restAt_5 7 rfl rfl)
theorem dX10_restAt_124 : decode cX10_restAt 124 = .ok (.getfield 118, 3) := dk_180 0 118 (dk_at dksX10_restAt_5 8 rfl rfl)
theorem dX10_restAt_127 : decode cX10_restAt 127 = .ok (.iload 5, 2) := dk_21 5 (dk_at dksX10_restAt_5 11 rfl rfl)
theorem dX10_restAt_129 : decode cX10_restAt 129 = .ok (.aload_n 0, 1) := dk_42 (dk_at dksX10_restAt_5 13 rfl rfl)
theorem dX10_restAt_130 : decode cX10_restAt 130 = .ok (.iload_n 1, 1) := dk_27 (dk_at dksX10_restAt_5 14 rfl rfl)
theorem dX10_restAt_131 : decode cX10_restAt 131 = .ok (.invokevirtual 510, 3) := dk_182 1 254 (dk_at dksX10_restAt_5 15 rfl rfl)
theorem dX10_restAt_134 : decode cX10_restAt 134 = .ok (.iastore, 1) := dk_79 (dk_at dksX10_restAt_5 18 rfl rfl)
theorem dX10_restAt_135 : decode cX10_restAt 135 = .ok (.aload_n 0, 1) := dk_42 (dk_at dksX10_restAt_5 19 rfl rfl)
theorem dX10_restAt_136 : decode cX10_restAt 136 = .ok (.getfield 121, 3) := dk_180 0 121 (dk_at dksX10_restAt_5 20 rfl rfl)
theorem dX10_restAt_139 : decode cX10_restAt 139 = .ok (.iload 5, 2) := dk_21 5 (dk_at dksX10_restAt_6 0 rfl rfl)
theorem dX10_restAt_141 : decode cX10_restAt 141 = .ok (.aload_n 0, 1) := dk_42 (dk_at dksX10_restAt_6 2 rfl rfl)
theorem dX10_restAt_142 : decode cX10_restAt 142 = .ok (.iload_n 2, 1) := dk_28 (dk_at dksX10_restAt_6 3 rfl rfl)
theorem dX10_restAt_143 : decode cX10_restAt 143 = .ok (.invokevirtual 510, 3) := dk_182 1 254 (dk_at dksX10_restAt_6 4 rfl rfl)
theorem dX10_restAt_146 : decode cX10_restAt 146 = .ok (.iastore, 1) := dk_79 (dk_at dksX10_restAt_6 7 rfl rfl)
theorem dX10_restAt_147 : decode cX10_restAt 147 = .ok (.iinc 5 1, 3) := dk_132 5 1 (dk_at dksX10_restAt_6 8 rfl rfl)
theorem dX10_restAt_150 : decode cX10_restAt 150 = .ok (.goto (-139), 3) := dk_167 255 117 (dk_at dksX10_restAt_6 11 rfl rfl)
theorem dX10_restAt_153 : decode cX10_restAt 153 = .ok (.iconst 0, 1) := dk_3 (dk_at dksX10_restAt_6 14 rfl rfl)
theorem dX10_restAt_154 : decode cX10_restAt 154 = .ok (.istore 5, 2) := dk_54 5 (dk_at dksX10_restAt_6 15 rfl rfl)
theorem dX10_restAt_156 : decode cX10_restAt 156 = .ok (.iconst 0, 1) := dk_3 (dk_at dksX10_restAt_6 17 rfl rfl)
theorem dX10_restAt_157 : decode cX10_restAt 157 = .ok (.istore 6, 2) := dk_54 6 (dk_at dksX10_restAt_6 18 rfl rfl)
theorem dX10_restAt_159 : decode cX10_restAt 159 = .ok (.iload 6, 2) := dk_21 6 (dk_at dksX10_restAt_6 20 rfl rfl)
theorem dX10_restAt_161 : decode cX10_restAt 161 = .ok (.iload 4, 2) := dk_21 4 (dk_at dksX10_restAt_6 22 rfl rfl)
theorem dX10_restAt_163 : decode cX10_restAt 163 = .ok (.iload 4, 2) := dk_21 4 (dk_at dksX10_restAt_7 0 rfl rfl)
theorem dX10_restAt_165 : decode cX10_restAt 165 = .ok (.imul, 1) := dk_104 (dk_at dksX10_restAt_7 2 rfl rfl)
theorem dX10_restAt_166 : decode cX10_restAt 166 = .ok (.if_icmp .ge 124, 3) := dk_162 0 124 (dk_at dksX10_restAt_7 3 rfl rfl)
theorem dX10_restAt_169 : decode cX10_restAt 169 = .ok (.iconst 1, 1) := dk_4 (dk_at dksX10_restAt_7 6 rfl rfl)
theorem dX10_restAt_170 : decode cX10_restAt 170 = .ok (.istore 7, 2) := dk_54 7 (dk_at dksX10_restAt_7 7 rfl rfl)
theorem dX10_restAt_172 : decode cX10_restAt 172 = .ok (.iconst 0, 1) := dk_3 (dk_at dksX10_restAt_7 9 rfl rfl)
theorem dX10_restAt_173 : decode cX10_restAt 173 = .ok (.istore 8, 2) := dk_54 8 (dk_at dksX10_restAt_7 10 rfl rfl)
theorem dX10_restAt_175 : decode cX10_restAt 175 = .ok (.iload 8, 2) := dk_21 8 (dk_at dksX10_restAt_7 12 rfl rfl)
theorem dX10_restAt_177 : decode cX10_restAt 177 = .ok (.iload 4, 2) := dk_21 4 (dk_at dksX10_restAt_7 14 rfl rfl)
theorem dX10_restAt_179 : decode cX10_restAt 179 = .ok (.if_icmp .ge 73, 3) := dk_162 0 73 (dk_at dksX10_restAt_7 16 rfl rfl)
theorem dX10_restAt_182 : decode cX10_restAt 182 = .ok (.iload 7, 2) := dk_21 7 (dk_at dksX10_restAt_7 19 rfl rfl)
theorem dX10_restAt_184 : decode cX10_restAt 184 = .ok (.ifCond .eq 59, 3) := dk_153 0 59 (dk_at dksX10_restAt_7 21 rfl rfl)
theorem dX10_restAt_187 : decode cX10_restAt 187 = .ok (.aload_n 0, 1) := dk_42 (dk_at dksX10_restAt_8 0 rfl rfl)
theorem dX10_restAt_188 : decode cX10_restAt 188 = .ok (.getfield 118, 3) := dk_180 0 118 (dk_at dksX10_restAt_8 1 rfl rfl)
theorem dX10_restAt_191 : decode cX10_restAt 191 = .ok (.iload 4, 2) := dk_21 4 (dk_at dksX10_restAt_8 4 rfl rfl)
theorem dX10_restAt_193 : decode cX10_restAt 193 = .ok (.iload 8, 2) := dk_21 8 (dk_at dksX10_restAt_8 6 rfl rfl)
theorem dX10_restAt_195 : decode cX10_restAt 195 = .ok (.imul, 1) := dk_104 (dk_at dksX10_restAt_8 8 rfl rfl)
theorem dX10_restAt_196 : decode cX10_restAt 196 = .ok (.iload 6, 2) := dk_21 6 (dk_at dksX10_restAt_8 9 rfl rfl)
theorem dX10_restAt_198 : decode cX10_restAt 198 = .ok (.iload 4, 2) := dk_21 4 (dk_at dksX10_restAt_8 11 rfl rfl)
theorem dX10_restAt_200 : decode cX10_restAt 200 = .ok (.irem, 1) := dk_112 (dk_at dksX10_restAt_8 13 rfl rfl)
theorem dX10_restAt_201 : decode cX10_restAt 201 = .ok (.iadd, 1) := dk_96 (dk_at dksX10_restAt_8 14 rfl rfl)
theorem dX10_restAt_202 : decode cX10_restAt 202 = .ok (.iaload, 1) := dk_46 (dk_at dksX10_restAt_8 15 rfl rfl)
theorem dX10_restAt_203 : decode cX10_restAt 203 = .ok (.aload_n 0, 1) := dk_42 (dk_at dksX10_restAt_8 16 rfl rfl)
theorem dX10_restAt_204 : decode cX10_restAt 204 = .ok (.getfield 118, 3) := dk_180 0 118 (dk_at dksX10_restAt_8 17 rfl rfl)
theorem dX10_restAt_207 : decode cX10_restAt 207 = .ok (.iload 6, 2) := dk_21 6 (dk_at dksX10_restAt_8 20 rfl rfl)
theorem dX10_restAt_209 : decode cX10_restAt 209 = .ok (.iaload, 1) := dk_46 (dk_at dksX10_restAt_8 22 rfl rfl)
theorem dX10_restAt_210 : decode cX10_restAt 210 = .ok (.if_icmp .gt 33, 3) := dk_163 0 33 (dk_at dksX10_restAt_9 0 rfl rfl)
theorem dX10_restAt_213 : decode cX10_restAt 213 = .ok (.aload_n 0, 1) := dk_42 (dk_at dksX10_restAt_9 3 rfl rfl)
theorem dX10_restAt_214 : decode cX10_restAt 214 = .ok (.getfield 121, 3) := dk_180 0 121 (dk_at dksX10_restAt_9 4 rfl rfl)
theorem dX10_restAt_217 : decode cX10_restAt 217 = .ok (.iload 6, 2) := dk_21 6 (dk_at dksX10_restAt_9 7 rfl rfl)
theorem dX10_restAt_219 : decode cX10_restAt 219 = .ok (.iload 4, 2) := dk_21 4 (dk_at dksX10_restAt_9 9 rfl rfl)
theorem dX10_restAt_221 : decode cX10_restAt 221 = .ok (.idiv, 1) := dk_108 (dk_at dksX10_restAt_9 11 rfl rfl)
theorem dX10_restAt_222 : decode cX10_restAt 222 = .ok (.iload 4, 2) := dk_21 4 (dk_at dksX10_restAt_9 12 rfl rfl)
theorem dX10_restAt_224 : decode cX10_restAt 224 = .ok (.imul, 1) := dk_104 (dk_at dksX10_restAt_9 14 rfl rfl)
theorem dX10_restAt_225 : decode cX10_restAt 225 = .ok (.iload 8, 2) := dk_21 8 (dk_at dksX10_restAt_9 15 rfl rfl)
theorem dX10_restAt_227 : decode cX10_restAt 227 = .ok (.iadd, 1) := dk_96 (dk_at dksX10_restAt_9 17 rfl rfl)
theorem dX10_restAt_228 : decode cX10_restAt 228 = .ok (.iaload, 1) := dk_46 (dk_at dksX10_restAt_9 18 rfl rfl)
theorem dX10_restAt_229 : decode cX10_restAt 229 = .ok (.aload_n 0, 1) := dk_42 (dk_at dksX10_restAt_9 19 rfl rfl)
theorem dX10_restAt_230 : decode cX10_restAt 230 = .ok (.getfield 121, 3) := dk_180 0 121 (dk_at dksX10_restAt_9 20 rfl rfl)
theorem dX10_restAt_233 : decode cX10_restAt 233 = .ok (.iload 6, 2) := dk_21 6 (dk_at dksX10_restAt_10 0 rfl rfl)
theorem dX10_restAt_235 : decode cX10_restAt 235 = .ok (.iaload, 1) := dk_46 (dk_at dksX10_restAt_10 2 rfl rfl)
theorem dX10_restAt_236 : decode cX10_restAt 236 = .ok (.if_icmp .gt 7, 3) := dk_163 0 7 (dk_at dksX10_restAt_10 3 rfl rfl)
theorem dX10_restAt_239 : decode cX10_restAt 239 = .ok (.iconst 1, 1) := dk_4 (dk_at dksX10_restAt_10 6 rfl rfl)
theorem dX10_restAt_240 : decode cX10_restAt 240 = .ok (.goto 4, 3) := dk_167 0 4 (dk_at dksX10_restAt_10 7 rfl rfl)
theorem dX10_restAt_243 : decode cX10_restAt 243 = .ok (.iconst 0, 1) := dk_3 (dk_at dksX10_restAt_10 10 rfl rfl)
theorem dX10_restAt_244 : decode cX10_restAt 244 = .ok (.istore 7, 2) := dk_54 7 (dk_at dksX10_restAt_10 11 rfl rfl)
theorem dX10_restAt_246 : decode cX10_restAt 246 = .ok (.iinc 8 1, 3) := dk_132 8 1 (dk_at dksX10_restAt_10 13 rfl rfl)
theorem dX10_restAt_249 : decode cX10_restAt 249 = .ok (.goto (-74), 3) := dk_167 255 182 (dk_at dksX10_restAt_10 16 rfl rfl)
theorem dX10_restAt_252 : decode cX10_restAt 252 = .ok (.iload 7, 2) := dk_21 7 (dk_at dksX10_restAt_10 19 rfl rfl)
theorem dX10_restAt_254 : decode cX10_restAt 254 = .ok (.ifCond .ne 6, 3) := dk_154 0 6 (dk_at dksX10_restAt_10 21 rfl rfl)
theorem dX10_restAt_257 : decode cX10_restAt 257 = .ok (.goto 27, 3) := dk_167 0 27 (dk_at dksX10_restAt_11 0 rfl rfl)
theorem dX10_restAt_260 : decode cX10_restAt 260 = .ok (.iload 5, 2) := dk_21 5 (dk_at dksX10_restAt_11 3 rfl rfl)
theorem dX10_restAt_262 : decode cX10_restAt 262 = .ok (.iload_n 3, 1) := dk_29 (dk_at dksX10_restAt_11 5 rfl rfl)
theorem dX10_restAt_263 : decode cX10_restAt 263 = .ok (.if_icmp .ne 18, 3) := dk_160 0 18 (dk_at dksX10_restAt_11 6 rfl rfl)
theorem dX10_restAt_266 : decode cX10_restAt 266 = .ok (.bipush 100, 2) := dk_16 100 (dk_at dksX10_restAt_11 9 rfl rfl)
theorem dX10_restAt_268 : decode cX10_restAt 268 = .ok (.iload 6, 2) := dk_21 6 (dk_at dksX10_restAt_11 11 rfl rfl)
theorem dX10_restAt_270 : decode cX10_restAt 270 = .ok (.iload 4, 2) := dk_21 4 (dk_at dksX10_restAt_11 13 rfl rfl)
theorem dX10_restAt_272 : decode cX10_restAt 272 = .ok (.idiv, 1) := dk_108 (dk_at dksX10_restAt_11 15 rfl rfl)
theorem dX10_restAt_273 : decode cX10_restAt 273 = .ok (.imul, 1) := dk_104 (dk_at dksX10_restAt_11 16 rfl rfl)
theorem dX10_restAt_274 : decode cX10_restAt 274 = .ok (.iload 6, 2) := dk_21 6 (dk_at dksX10_restAt_11 17 rfl rfl)
theorem dX10_restAt_276 : decode cX10_restAt 276 = .ok (.iload 4, 2) := dk_21 4 (dk_at dksX10_restAt_11 19 rfl rfl)
theorem dX10_restAt_278 : decode cX10_restAt 278 = .ok (.irem, 1) := dk_112 (dk_at dksX10_restAt_11 21 rfl rfl)
theorem dX10_restAt_279 : decode cX10_restAt 279 = .ok (.iadd, 1) := dk_96 (dk_at dksX10_restAt_11 22 rfl rfl)
theorem dX10_restAt_280 : decode cX10_restAt 280 = .ok (.ireturn, 1) := dk_172 (dk_at dksX10_restAt_11 23 rfl rfl)
theorem dX10_restAt_281 : decode cX10_restAt 281 = .ok (.iinc 5 1, 3) := dk_132 5 1 (dk_at dksX10_restAt_12 0 rfl rfl)
theorem dX10_restAt_284 : decode cX10_restAt 284 = .ok (.iinc 6 1, 3) := dk_132 6 1 (dk_at dksX10_restAt_12 3 rfl rfl)
theorem dX10_restAt_287 : decode cX10_restAt 287 = .ok (.goto (-128), 3) := dk_167 255 128 (dk_at dksX10_restAt_12 6 rfl rfl)
theorem dX10_restAt_290 : decode cX10_restAt 290 = .ok (.iload_n 3, 1) := dk_29 (dk_at dksX10_restAt_12 9 rfl rfl)
theorem dX10_restAt_291 : decode cX10_restAt 291 = .ok (.ifCond .ge 8, 3) := dk_156 0 8 (dk_at dksX10_restAt_12 10 rfl rfl)
theorem dX10_restAt_294 : decode cX10_restAt 294 = .ok (.iload 5, 2) := dk_21 5 (dk_at dksX10_restAt_12 13 rfl rfl)
theorem dX10_restAt_296 : decode cX10_restAt 296 = .ok (.goto 5, 3) := dk_167 0 5 (dk_at dksX10_restAt_12 15 rfl rfl)
theorem dX10_restAt_299 : decode cX10_restAt 299 = .ok (.bipush (-2), 2) := dk_16 254 (dk_at dksX10_restAt_12 18 rfl rfl)
theorem dX10_restAt_301 : decode cX10_restAt 301 = .ok (.ireturn, 1) := dk_172 (dk_at dksX10_restAt_12 20 rfl rfl)
def dkwX10_gainOf_1 : List UInt8 := [180, 0, 103, 8, 27, 96, 46, 42, 180, 0, 103, 27, 46, 100, 104, 100, 172]
abbrev dktX10_gainOf_1 : List UInt8 := dkwX10_gainOf_1 ++ []
def dkwX10_gainOf_0 : List UInt8 := [42, 180, 0, 100, 8, 27, 96, 46, 184, 1, 151, 42, 180, 0, 100, 27, 46, 184, 1, 151, 100, 5, 42]
abbrev dktX10_gainOf_0 : List UInt8 := dkwX10_gainOf_0 ++ dktX10_gainOf_1
theorem dksX10_gainOf_0 : cX10_gainOf.data.toList.drop 0 = dktX10_gainOf_0 := by decide +kernel
theorem dksX10_gainOf_1 : cX10_gainOf.data.toList.drop 23 = dktX10_gainOf_1 := dk_seg dksX10_gainOf_0 23 rfl rfl
theorem dX10_gainOf_0 : decode cX10_gainOf 0 = .ok (.aload_n 0, 1) := dk_42 (dk_at dksX10_gainOf_0 0 rfl rfl)
theorem dX10_gainOf_1 : decode cX10_gainOf 1 = .ok (.getfield 100, 3) := dk_180 0 100 (dk_at dksX10_gainOf_0 1 rfl rfl)
theorem dX10_gainOf_4 : decode cX10_gainOf 4 = .ok (.iconst 5, 1) := dk_8 (dk_at dksX10_gainOf_0 4 rfl rfl)
theorem dX10_gainOf_5 : decode cX10_gainOf 5 = .ok (.iload_n 1, 1) := dk_27 (dk_at dksX10_gainOf_0 5 rfl rfl)
theorem dX10_gainOf_6 : decode cX10_gainOf 6 = .ok (.iadd, 1) := dk_96 (dk_at dksX10_gainOf_0 6 rfl rfl)
theorem dX10_gainOf_7 : decode cX10_gainOf 7 = .ok (.iaload, 1) := dk_46 (dk_at dksX10_gainOf_0 7 rfl rfl)
theorem dX10_gainOf_8 : decode cX10_gainOf 8 = .ok (.invokestatic 407, 3) := dk_184 1 151 (dk_at dksX10_gainOf_0 8 rfl rfl)
theorem dX10_gainOf_11 : decode cX10_gainOf 11 = .ok (.aload_n 0, 1) := dk_42 (dk_at dksX10_gainOf_0 11 rfl rfl)
theorem dX10_gainOf_12 : decode cX10_gainOf 12 = .ok (.getfield 100, 3) := dk_180 0 100 (dk_at dksX10_gainOf_0 12 rfl rfl)
theorem dX10_gainOf_15 : decode cX10_gainOf 15 = .ok (.iload_n 1, 1) := dk_27 (dk_at dksX10_gainOf_0 15 rfl rfl)
theorem dX10_gainOf_16 : decode cX10_gainOf 16 = .ok (.iaload, 1) := dk_46 (dk_at dksX10_gainOf_0 16 rfl rfl)
theorem dX10_gainOf_17 : decode cX10_gainOf 17 = .ok (.invokestatic 407, 3) := dk_184 1 151 (dk_at dksX10_gainOf_0 17 rfl rfl)
theorem dX10_gainOf_20 : decode cX10_gainOf 20 = .ok (.isub, 1) := dk_100 (dk_at dksX10_gainOf_0 20 rfl rfl)
theorem dX10_gainOf_21 : decode cX10_gainOf 21 = .ok (.iconst 2, 1) := dk_5 (dk_at dksX10_gainOf_0 21 rfl rfl)
theorem dX10_gainOf_22 : decode cX10_gainOf 22 = .ok (.aload_n 0, 1) := dk_42 (dk_at dksX10_gainOf_0 22 rfl rfl)
theorem dX10_gainOf_23 : decode cX10_gainOf 23 = .ok (.getfield 103, 3) := dk_180 0 103 (dk_at dksX10_gainOf_1 0 rfl rfl)
theorem dX10_gainOf_26 : decode cX10_gainOf 26 = .ok (.iconst 5, 1) := dk_8 (dk_at dksX10_gainOf_1 3 rfl rfl)
theorem dX10_gainOf_27 : decode cX10_gainOf 27 = .ok (.iload_n 1, 1) := dk_27 (dk_at dksX10_gainOf_1 4 rfl rfl)
theorem dX10_gainOf_28 : decode cX10_gainOf 28 = .ok (.iadd, 1) := dk_96 (dk_at dksX10_gainOf_1 5 rfl rfl)
theorem dX10_gainOf_29 : decode cX10_gainOf 29 = .ok (.iaload, 1) := dk_46 (dk_at dksX10_gainOf_1 6 rfl rfl)
theorem dX10_gainOf_30 : decode cX10_gainOf 30 = .ok (.aload_n 0, 1) := dk_42 (dk_at dksX10_gainOf_1 7 rfl rfl)
theorem dX10_gainOf_31 : decode cX10_gainOf 31 = .ok (.getfield 103, 3) := dk_180 0 103 (dk_at dksX10_gainOf_1 8 rfl rfl)
theorem dX10_gainOf_34 : decode cX10_gainOf 34 = .ok (.iload_n 1, 1) := dk_27 (dk_at dksX10_gainOf_1 11 rfl rfl)
theorem dX10_gainOf_35 : decode cX10_gainOf 35 = .ok (.iaload, 1) := dk_46 (dk_at dksX10_gainOf_1 12 rfl rfl)
theorem dX10_gainOf_36 : decode cX10_gainOf 36 = .ok (.isub, 1) := dk_100 (dk_at dksX10_gainOf_1 13 rfl rfl)
theorem dX10_gainOf_37 : decode cX10_gainOf 37 = .ok (.imul, 1) := dk_104 (dk_at dksX10_gainOf_1 14 rfl rfl)
theorem dX10_gainOf_38 : decode cX10_gainOf 38 = .ok (.isub, 1) := dk_100 (dk_at dksX10_gainOf_1 15 rfl rfl)
theorem dX10_gainOf_39 : decode cX10_gainOf 39 = .ok (.ireturn, 1) := dk_172 (dk_at dksX10_gainOf_1 16 rfl rfl)
def dkwX10_rest_1 : List UInt8 := [182, 2, 4, 167, 0, 4, 2, 172]
abbrev dktX10_rest_1 : List UInt8 := dkwX10_rest_1 ++ []
def dkwX10_rest_0 : List UInt8 := [42, 3, 181, 0, 148, 42, 27, 28, 182, 2, 1, 153, 0, 17, 29, 155, 0, 13, 42, 27, 28, 29]
abbrev dktX10_rest_0 : List UInt8 := dkwX10_rest_0 ++ dktX10_rest_1
theorem dksX10_rest_0 : cX10_rest.data.toList.drop 0 = dktX10_rest_0 := by decide +kernel
theorem dksX10_rest_1 : cX10_rest.data.toList.drop 22 = dktX10_rest_1 := dk_seg dksX10_rest_0 22 rfl rfl
theorem dX10_rest_0 : decode cX10_rest 0 = .ok (.aload_n 0, 1) := dk_42 (dk_at dksX10_rest_0 0 rfl rfl)
theorem dX10_rest_1 : decode cX10_rest 1 = .ok (.iconst 0, 1) := dk_3 (dk_at dksX10_rest_0 1 rfl rfl)
theorem dX10_rest_2 : decode cX10_rest 2 = .ok (.putfield 148, 3) := dk_181 0 148 (dk_at dksX10_rest_0 2 rfl rfl)
theorem dX10_rest_5 : decode cX10_rest 5 = .ok (.aload_n 0, 1) := dk_42 (dk_at dksX10_rest_0 5 rfl rfl)
theorem dX10_rest_6 : decode cX10_rest 6 = .ok (.iload_n 1, 1) := dk_27 (dk_at dksX10_rest_0 6 rfl rfl)
theorem dX10_rest_7 : decode cX10_rest 7 = .ok (.iload_n 2, 1) := dk_28 (dk_at dksX10_rest_0 7 rfl rfl)
theorem dX10_rest_8 : decode cX10_rest 8 = .ok (.invokevirtual 513, 3) := dk_182 2 1 (dk_at dksX10_rest_0 8 rfl rfl)
theorem dX10_rest_11 : decode cX10_rest 11 = .ok (.ifCond .eq 17, 3) := dk_153 0 17 (dk_at dksX10_rest_0 11 rfl rfl)
theorem dX10_rest_14 : decode cX10_rest 14 = .ok (.iload_n 3, 1) := dk_29 (dk_at dksX10_rest_0 14 rfl rfl)
theorem dX10_rest_15 : decode cX10_rest 15 = .ok (.ifCond .lt 13, 3) := dk_155 0 13 (dk_at dksX10_rest_0 15 rfl rfl)
theorem dX10_rest_18 : decode cX10_rest 18 = .ok (.aload_n 0, 1) := dk_42 (dk_at dksX10_rest_0 18 rfl rfl)
theorem dX10_rest_19 : decode cX10_rest 19 = .ok (.iload_n 1, 1) := dk_27 (dk_at dksX10_rest_0 19 rfl rfl)
theorem dX10_rest_20 : decode cX10_rest 20 = .ok (.iload_n 2, 1) := dk_28 (dk_at dksX10_rest_0 20 rfl rfl)
theorem dX10_rest_21 : decode cX10_rest 21 = .ok (.iload_n 3, 1) := dk_29 (dk_at dksX10_rest_0 21 rfl rfl)
theorem dX10_rest_22 : decode cX10_rest 22 = .ok (.invokevirtual 516, 3) := dk_182 2 4 (dk_at dksX10_rest_1 0 rfl rfl)
theorem dX10_rest_25 : decode cX10_rest 25 = .ok (.goto 4, 3) := dk_167 0 4 (dk_at dksX10_rest_1 3 rfl rfl)
theorem dX10_rest_28 : decode cX10_rest 28 = .ok (.iconst (-1), 1) := dk_2 (dk_at dksX10_rest_1 6 rfl rfl)
theorem dX10_rest_29 : decode cX10_rest 29 = .ok (.ireturn, 1) := dk_172 (dk_at dksX10_rest_1 7 rfl rfl)
def dkwX10_slipped_2 : List UInt8 := [46, 172]
abbrev dktX10_slipped_2 : List UInt8 := dkwX10_slipped_2 ++ []
def dkwX10_slipped_1 : List UInt8 := [180, 0, 237, 162, 0, 14, 42, 28, 182, 2, 10, 132, 2, 1, 167, 255, 240, 42, 180, 0, 103, 8, 27, 96]
abbrev dktX10_slipped_1 : List UInt8 := dkwX10_slipped_1 ++ dktX10_slipped_2
def dkwX10_slipped_0 : List UInt8 := [42, 3, 181, 0, 148, 42, 27, 182, 1, 187, 154, 0, 5, 2, 172, 42, 182, 2, 7, 3, 61, 28, 42]
abbrev dktX10_slipped_0 : List UInt8 := dkwX10_slipped_0 ++ dktX10_slipped_1
theorem dksX10_slipped_0 : cX10_slipped.data.toList.drop 0 = dktX10_slipped_0 := by decide +kernel
theorem dksX10_slipped_1 : cX10_slipped.data.toList.drop 23 = dktX10_slipped_1 := dk_seg dksX10_slipped_0 23 rfl rfl
theorem dksX10_slipped_2 : cX10_slipped.data.toList.drop 47 = dktX10_slipped_2 := dk_seg dksX10_slipped_1 24 rfl rfl
theorem dX10_slipped_0 : decode cX10_slipped 0 = .ok (.aload_n 0, 1) := dk_42 (dk_at dksX10_slipped_0 0 rfl rfl)
theorem dX10_slipped_1 : decode cX10_slipped 1 = .ok (.iconst 0, 1) := dk_3 (dk_at dksX10_slipped_0 1 rfl rfl)
theorem dX10_slipped_2 : decode cX10_slipped 2 = .ok (.putfield 148, 3) := dk_181 0 148 (dk_at dksX10_slipped_0 2 rfl rfl)
theorem dX10_slipped_5 : decode cX10_slipped 5 = .ok (.aload_n 0, 1) := dk_42 (dk_at dksX10_slipped_0 5 rfl rfl)
theorem dX10_slipped_6 : decode cX10_slipped 6 = .ok (.iload_n 1, 1) := dk_27 (dk_at dksX10_slipped_0 6 rfl rfl)
theorem dX10_slipped_7 : decode cX10_slipped 7 = .ok (.invokevirtual 443, 3) := dk_182 1 187 (dk_at dksX10_slipped_0 7 rfl rfl)
theorem dX10_slipped_10 : decode cX10_slipped 10 = .ok (.ifCond .ne 5, 3) := dk_154 0 5 (dk_at dksX10_slipped_0 10 rfl rfl)
theorem dX10_slipped_13 : decode cX10_slipped 13 = .ok (.iconst (-1), 1) := dk_2 (dk_at dksX10_slipped_0 13 rfl rfl)
theorem dX10_slipped_14 : decode cX10_slipped 14 = .ok (.ireturn, 1) := dk_172 (dk_at dksX10_slipped_0 14 rfl rfl)
theorem dX10_slipped_15 : decode cX10_slipped 15 = .ok (.aload_n 0, 1) := dk_42 (dk_at dksX10_slipped_0 15 rfl rfl)
theorem dX10_slipped_16 : decode cX10_slipped 16 = .ok (.invokevirtual 519, 3) := dk_182 2 7 (dk_at dksX10_slipped_0 16 rfl rfl)
theorem dX10_slipped_19 : decode cX10_slipped 19 = .ok (.iconst 0, 1) := dk_3 (dk_at dksX10_slipped_0 19 rfl rfl)
theorem dX10_slipped_20 : decode cX10_slipped 20 = .ok (.istore_n 2, 1) := dk_61 (dk_at dksX10_slipped_0 20 rfl rfl)
theorem dX10_slipped_21 : decode cX10_slipped 21 = .ok (.iload_n 2, 1) := dk_28 (dk_at dksX10_slipped_0 21 rfl rfl)
theorem dX10_slipped_22 : decode cX10_slipped 22 = .ok (.aload_n 0, 1) := dk_42 (dk_at dksX10_slipped_0 22 rfl rfl)
theorem dX10_slipped_23 : decode cX10_slipped 23 = .ok (.getfield 237, 3) := dk_180 0 237 (dk_at dksX10_slipped_1 0 rfl rfl)
theorem dX10_slipped_26 : decode cX10_slipped 26 = .ok (.if_icmp .ge 14, 3) := dk_162 0 14 (dk_at dksX10_slipped_1 3 rfl rfl)
theorem dX10_slipped_29 : decode cX10_slipped 29 = .ok (.aload_n 0, 1) := dk_42 (dk_at dksX10_slipped_1 6 rfl rfl)
theorem dX10_slipped_30 : decode cX10_slipped 30 = .ok (.iload_n 2, 1) := dk_28 (dk_at dksX10_slipped_1 7 rfl rfl)
theorem dX10_slipped_31 : decode cX10_slipped 31 = .ok (.invokevirtual 522, 3) := dk_182 2 10 (dk_at dksX10_slipped_1 8 rfl rfl)
theorem dX10_slipped_34 : decode cX10_slipped 34 = .ok (.iinc 2 1, 3) := dk_132 2 1 (dk_at dksX10_slipped_1 11 rfl rfl)
theorem dX10_slipped_37 : decode cX10_slipped 37 = .ok (.goto (-16), 3) := dk_167 255 240 (dk_at dksX10_slipped_1 14 rfl rfl)
theorem dX10_slipped_40 : decode cX10_slipped 40 = .ok (.aload_n 0, 1) := dk_42 (dk_at dksX10_slipped_1 17 rfl rfl)
theorem dX10_slipped_41 : decode cX10_slipped 41 = .ok (.getfield 103, 3) := dk_180 0 103 (dk_at dksX10_slipped_1 18 rfl rfl)
theorem dX10_slipped_44 : decode cX10_slipped 44 = .ok (.iconst 5, 1) := dk_8 (dk_at dksX10_slipped_1 21 rfl rfl)
theorem dX10_slipped_45 : decode cX10_slipped 45 = .ok (.iload_n 1, 1) := dk_27 (dk_at dksX10_slipped_1 22 rfl rfl)
theorem dX10_slipped_46 : decode cX10_slipped 46 = .ok (.iadd, 1) := dk_96 (dk_at dksX10_slipped_1 23 rfl rfl)
theorem dX10_slipped_47 : decode cX10_slipped 47 = .ok (.iaload, 1) := dk_46 (dk_at dksX10_slipped_2 0 rfl rfl)
theorem dX10_slipped_48 : decode cX10_slipped 48 = .ok (.ireturn, 1) := dk_172 (dk_at dksX10_slipped_2 1 rfl rfl)
def dkwX10_layTextTried_0 : List UInt8 := [42, 4, 182, 1, 105, 42, 182, 1, 115, 42, 4, 181, 1, 130, 177]
abbrev dktX10_layTextTried_0 : List UInt8 := dkwX10_layTextTried_0 ++ []
theorem dksX10_layTextTried_0 : cX10_layTextTried.data.toList.drop 0 = dktX10_layTextTried_0 := by decide +kernel
theorem dX10_layTextTried_0 : decode cX10_layTextTried 0 = .ok (.aload_n 0, 1) := dk_42 (dk_at dksX10_layTextTried_0 0 rfl rfl)
theorem dX10_layTextTried_1 : decode cX10_layTextTried 1 = .ok (.iconst 1, 1) := dk_4 (dk_at dksX10_layTextTried_0 1 rfl rfl)
theorem dX10_layTextTried_2 : decode cX10_layTextTried 2 = .ok (.invokevirtual 361, 3) := dk_182 1 105 (dk_at dksX10_layTextTried_0 2 rfl rfl)
theorem dX10_layTextTried_5 : decode cX10_layTextTried 5 = .ok (.aload_n 0, 1) := dk_42 (dk_at dksX10_layTextTried_0 5 rfl rfl)
theorem dX10_layTextTried_6 : decode cX10_layTextTried 6 = .ok (.invokevirtual 371, 3) := dk_182 1 115 (dk_at dksX10_layTextTried_0 6 rfl rfl)
theorem dX10_layTextTried_9 : decode cX10_layTextTried 9 = .ok (.aload_n 0, 1) := dk_42 (dk_at dksX10_layTextTried_0 9 rfl rfl)
theorem dX10_layTextTried_10 : decode cX10_layTextTried 10 = .ok (.iconst 1, 1) := dk_4 (dk_at dksX10_layTextTried_0 10 rfl rfl)
theorem dX10_layTextTried_11 : decode cX10_layTextTried 11 = .ok (.putfield 386, 3) := dk_181 1 130 (dk_at dksX10_layTextTried_0 11 rfl rfl)
theorem dX10_layTextTried_14 : decode cX10_layTextTried 14 = .ok (.return_, 1) := dk_177 (dk_at dksX10_layTextTried_0 14 rfl rfl)
def dkwX10_talkOf_2 : List UInt8 := [182, 1, 205, 153, 0, 7, 4, 167, 0, 4, 3, 61, 177]
abbrev dktX10_talkOf_2 : List UInt8 := dkwX10_talkOf_2 ++ []
def dkwX10_talkOf_1 : List UInt8 := [153, 0, 33, 42, 4, 42, 180, 0, 60, 27, 46, 42, 180, 0, 63, 27, 46, 42, 180, 0, 66, 27, 46]
abbrev dktX10_talkOf_1 : List UInt8 := dkwX10_talkOf_1 ++ dktX10_talkOf_2
def dkwX10_talkOf_0 : List UInt8 := [42, 4, 42, 180, 0, 60, 27, 46, 42, 180, 0, 63, 27, 46, 42, 180, 0, 66, 27, 46, 182, 1, 196]
abbrev dktX10_talkOf_0 : List UInt8 := dkwX10_talkOf_0 ++ dktX10_talkOf_1
theorem dksX10_talkOf_0 : cX10_talkOf.data.toList.drop 0 = dktX10_talkOf_0 := by decide +kernel
theorem dksX10_talkOf_1 : cX10_talkOf.data.toList.drop 23 = dktX10_talkOf_1 := dk_seg dksX10_talkOf_0 23 rfl rfl
theorem dksX10_talkOf_2 : cX10_talkOf.data.toList.drop 46 = dktX10_talkOf_2 := dk_seg dksX10_talkOf_1 23 rfl rfl
theorem dX10_talkOf_0 : decode cX10_talkOf 0 = .ok (.aload_n 0, 1) := dk_42 (dk_at dksX10_talkOf_0 0 rfl rfl)
theorem dX10_talkOf_1 : decode cX10_talkOf 1 = .ok (.iconst 1, 1) := dk_4 (dk_at dksX10_talkOf_0 1 rfl rfl)
theorem dX10_talkOf_2 : decode cX10_talkOf 2 = .ok (.aload_n 0, 1) := dk_42 (dk_at dksX10_talkOf_0 2 rfl rfl)
theorem dX10_talkOf_3 : decode cX10_talkOf 3 = .ok (.getfield 60, 3) := dk_180 0 60 (dk_at dksX10_talkOf_0 3 rfl rfl)
theorem dX10_talkOf_6 : decode cX10_talkOf 6 = .ok (.iload_n 1, 1) := dk_27 (dk_at dksX10_talkOf_0 6 rfl rfl)
theorem dX10_talkOf_7 : decode cX10_talkOf 7 = .ok (.iaload, 1) := dk_46 (dk_at dksX10_talkOf_0 7 rfl rfl)
theorem dX10_talkOf_8 : decode cX10_talkOf 8 = .ok (.aload_n 0, 1) := dk_42 (dk_at dksX10_talkOf_0 8 rfl rfl)
theorem dX10_talkOf_9 : decode cX10_talkOf 9 = .ok (.getfield 63, 3) := dk_180 0 63 (dk_at dksX10_talkOf_0 9 rfl rfl)
theorem dX10_talkOf_12 : decode cX10_talkOf 12 = .ok (.iload_n 1, 1) := dk_27 (dk_at dksX10_talkOf_0 12 rfl rfl)
theorem dX10_talkOf_13 : decode cX10_talkOf 13 = .ok (.iaload, 1) := dk_46 (dk_at dksX10_talkOf_0 13 rfl rfl)
theorem dX10_talkOf_14 : decode cX10_talkOf 14 = .ok (.aload_n 0, 1) := dk_42 (dk_at dksX10_talkOf_0 14 rfl rfl)
theorem dX10_talkOf_15 : decode cX10_talkOf 15 = .ok (.getfield 66, 3) := dk_180 0 66 (dk_at dksX10_talkOf_0 15 rfl rfl)
theorem dX10_talkOf_18 : decode cX10_talkOf 18 = .ok (.iload_n 1, 1) := dk_27 (dk_at dksX10_talkOf_0 18 rfl rfl)
theorem dX10_talkOf_19 : decode cX10_talkOf 19 = .ok (.iaload, 1) := dk_46 (dk_at dksX10_talkOf_0 19 rfl rfl)
theorem dX10_talkOf_20 : decode cX10_talkOf 20 = .ok (.invokevirtual 452, 3) := dk_182 1 196 (dk_at dksX10_talkOf_0 20 rfl rfl)
theorem dX10_talkOf_23 : decode cX10_talkOf 23 = .ok (.ifCond .eq 33, 3) := dk_153 0 33 (dk_at dksX10_talkOf_1 0 rfl rfl)
theorem dX10_talkOf_26 : decode cX10_talkOf 26 = .ok (.aload_n 0, 1) := dk_42 (dk_at dksX10_talkOf_1 3 rfl rfl)
theorem dX10_talkOf_27 : decode cX10_talkOf 27 = .ok (.iconst 1, 1) := dk_4 (dk_at dksX10_talkOf_1 4 rfl rfl)
theorem dX10_talkOf_28 : decode cX10_talkOf 28 = .ok (.aload_n 0, 1) := dk_42 (dk_at dksX10_talkOf_1 5 rfl rfl)
theorem dX10_talkOf_29 : decode cX10_talkOf 29 = .ok (.getfield 60, 3) := dk_180 0 60 (dk_at dksX10_talkOf_1 6 rfl rfl)
theorem dX10_talkOf_32 : decode cX10_talkOf 32 = .ok (.iload_n 1, 1) := dk_27 (dk_at dksX10_talkOf_1 9 rfl rfl)
theorem dX10_talkOf_33 : decode cX10_talkOf 33 = .ok (.iaload, 1) := dk_46 (dk_at dksX10_talkOf_1 10 rfl rfl)
theorem dX10_talkOf_34 : decode cX10_talkOf 34 = .ok (.aload_n 0, 1) := dk_42 (dk_at dksX10_talkOf_1 11 rfl rfl)
theorem dX10_talkOf_35 : decode cX10_talkOf 35 = .ok (.getfield 63, 3) := dk_180 0 63 (dk_at dksX10_talkOf_1 12 rfl rfl)
theorem dX10_talkOf_38 : decode cX10_talkOf 38 = .ok (.iload_n 1, 1) := dk_27 (dk_at dksX10_talkOf_1 15 rfl rfl)
theorem dX10_talkOf_39 : decode cX10_talkOf 39 = .ok (.iaload, 1) := dk_46 (dk_at dksX10_talkOf_1 16 rfl rfl)
theorem dX10_talkOf_40 : decode cX10_talkOf 40 = .ok (.aload_n 0, 1) := dk_42 (dk_at dksX10_talkOf_1 17 rfl rfl)
theorem dX10_talkOf_41 : decode cX10_talkOf 41 = .ok (.getfield 66, 3) := dk_180 0 66 (dk_at dksX10_talkOf_1 18 rfl rfl)
theorem dX10_talkOf_44 : decode cX10_talkOf 44 = .ok (.iload_n 1, 1) := dk_27 (dk_at dksX10_talkOf_1 21 rfl rfl)
theorem dX10_talkOf_45 : decode cX10_talkOf 45 = .ok (.iaload, 1) := dk_46 (dk_at dksX10_talkOf_1 22 rfl rfl)
theorem dX10_talkOf_46 : decode cX10_talkOf 46 = .ok (.invokevirtual 461, 3) := dk_182 1 205 (dk_at dksX10_talkOf_2 0 rfl rfl)
theorem dX10_talkOf_49 : decode cX10_talkOf 49 = .ok (.ifCond .eq 7, 3) := dk_153 0 7 (dk_at dksX10_talkOf_2 3 rfl rfl)
theorem dX10_talkOf_52 : decode cX10_talkOf 52 = .ok (.iconst 1, 1) := dk_4 (dk_at dksX10_talkOf_2 6 rfl rfl)
theorem dX10_talkOf_53 : decode cX10_talkOf 53 = .ok (.goto 4, 3) := dk_167 0 4 (dk_at dksX10_talkOf_2 7 rfl rfl)
theorem dX10_talkOf_56 : decode cX10_talkOf 56 = .ok (.iconst 0, 1) := dk_3 (dk_at dksX10_talkOf_2 10 rfl rfl)
theorem dX10_talkOf_57 : decode cX10_talkOf 57 = .ok (.istore_n 2, 1) := dk_61 (dk_at dksX10_talkOf_2 11 rfl rfl)
theorem dX10_talkOf_58 : decode cX10_talkOf 58 = .ok (.return_, 1) := dk_177 (dk_at dksX10_talkOf_2 12 rfl rfl)
def dkwX10_behind_2 : List UInt8 := [167, 255, 243, 42, 180, 0, 100, 8, 28, 96, 46, 172]
abbrev dktX10_behind_2 : List UInt8 := dkwX10_behind_2 ++ []
def dkwX10_behind_1 : List UInt8 := [154, 0, 5, 2, 172, 42, 182, 2, 7, 3, 62, 29, 27, 162, 0, 14, 42, 29, 182, 2, 10, 132, 3, 1]
abbrev dktX10_behind_1 : List UInt8 := dkwX10_behind_1 ++ dktX10_behind_2
def dkwX10_behind_0 : List UInt8 := [42, 3, 181, 0, 148, 27, 3, 42, 180, 0, 237, 184, 0, 193, 153, 0, 11, 42, 28, 182, 1, 187]
abbrev dktX10_behind_0 : List UInt8 := dkwX10_behind_0 ++ dktX10_behind_1
theorem dksX10_behind_0 : cX10_behind.data.toList.drop 0 = dktX10_behind_0 := by decide +kernel
theorem dksX10_behind_1 : cX10_behind.data.toList.drop 22 = dktX10_behind_1 := dk_seg dksX10_behind_0 22 rfl rfl
theorem dksX10_behind_2 : cX10_behind.data.toList.drop 46 = dktX10_behind_2 := dk_seg dksX10_behind_1 24 rfl rfl
theorem dX10_behind_0 : decode cX10_behind 0 = .ok (.aload_n 0, 1) := dk_42 (dk_at dksX10_behind_0 0 rfl rfl)
theorem dX10_behind_1 : decode cX10_behind 1 = .ok (.iconst 0, 1) := dk_3 (dk_at dksX10_behind_0 1 rfl rfl)
theorem dX10_behind_2 : decode cX10_behind 2 = .ok (.putfield 148, 3) := dk_181 0 148 (dk_at dksX10_behind_0 2 rfl rfl)
theorem dX10_behind_5 : decode cX10_behind 5 = .ok (.iload_n 1, 1) := dk_27 (dk_at dksX10_behind_0 5 rfl rfl)
theorem dX10_behind_6 : decode cX10_behind 6 = .ok (.iconst 0, 1) := dk_3 (dk_at dksX10_behind_0 6 rfl rfl)
theorem dX10_behind_7 : decode cX10_behind 7 = .ok (.aload_n 0, 1) := dk_42 (dk_at dksX10_behind_0 7 rfl rfl)
theorem dX10_behind_8 : decode cX10_behind 8 = .ok (.getfield 237, 3) := dk_180 0 237 (dk_at dksX10_behind_0 8 rfl rfl)
theorem dX10_behind_11 : decode cX10_behind 11 = .ok (.invokestatic 193, 3) := dk_184 0 193 (dk_at dksX10_behind_0 11 rfl rfl)
theorem dX10_behind_14 : decode cX10_behind 14 = .ok (.ifCond .eq 11, 3) := dk_153 0 11 (dk_at dksX10_behind_0 14 rfl rfl)
theorem dX10_behind_17 : decode cX10_behind 17 = .ok (.aload_n 0, 1) := dk_42 (dk_at dksX10_behind_0 17 rfl rfl)
theorem dX10_behind_18 : decode cX10_behind 18 = .ok (.iload_n 2, 1) := dk_28 (dk_at dksX10_behind_0 18 rfl rfl)
theorem dX10_behind_19 : decode cX10_behind 19 = .ok (.invokevirtual 443, 3) := dk_182 1 187 (dk_at dksX10_behind_0 19 rfl rfl)
theorem dX10_behind_22 : decode cX10_behind 22 = .ok (.ifCond .ne 5, 3) := dk_154 0 5 (dk_at dksX10_behind_1 0 rfl rfl)
theorem dX10_behind_25 : decode cX10_behind 25 = .ok (.iconst (-1), 1) := dk_2 (dk_at dksX10_behind_1 3 rfl rfl)
theorem dX10_behind_26 : decode cX10_behind 26 = .ok (.ireturn, 1) := dk_172 (dk_at dksX10_behind_1 4 rfl rfl)
theorem dX10_behind_27 : decode cX10_behind 27 = .ok (.aload_n 0, 1) := dk_42 (dk_at dksX10_behind_1 5 rfl rfl)
theorem dX10_behind_28 : decode cX10_behind 28 = .ok (.invokevirtual 519, 3) := dk_182 2 7 (dk_at dksX10_behind_1 6 rfl rfl)
theorem dX10_behind_31 : decode cX10_behind 31 = .ok (.iconst 0, 1) := dk_3 (dk_at dksX10_behind_1 9 rfl rfl)
theorem dX10_behind_32 : decode cX10_behind 32 = .ok (.istore_n 3, 1) := dk_62 (dk_at dksX10_behind_1 10 rfl rfl)
theorem dX10_behind_33 : decode cX10_behind 33 = .ok (.iload_n 3, 1) := dk_29 (dk_at dksX10_behind_1 11 rfl rfl)
theorem dX10_behind_34 : decode cX10_behind 34 = .ok (.iload_n 1, 1) := dk_27 (dk_at dksX10_behind_1 12 rfl rfl)
theorem dX10_behind_35 : decode cX10_behind 35 = .ok (.if_icmp .ge 14, 3) := dk_162 0 14 (dk_at dksX10_behind_1 13 rfl rfl)
theorem dX10_behind_38 : decode cX10_behind 38 = .ok (.aload_n 0, 1) := dk_42 (dk_at dksX10_behind_1 16 rfl rfl)
theorem dX10_behind_39 : decode cX10_behind 39 = .ok (.iload_n 3, 1) := dk_29 (dk_at dksX10_behind_1 17 rfl rfl)
theorem dX10_behind_40 : decode cX10_behind 40 = .ok (.invokevirtual 522, 3) := dk_182 2 10 (dk_at dksX10_behind_1 18 rfl rfl)
theorem dX10_behind_43 : decode cX10_behind 43 = .ok (.iinc 3 1, 3) := dk_132 3 1 (dk_at dksX10_behind_1 21 rfl rfl)
theorem dX10_behind_46 : decode cX10_behind 46 = .ok (.goto (-13), 3) := dk_167 255 243 (dk_at dksX10_behind_2 0 rfl rfl)
theorem dX10_behind_49 : decode cX10_behind 49 = .ok (.aload_n 0, 1) := dk_42 (dk_at dksX10_behind_2 3 rfl rfl)
theorem dX10_behind_50 : decode cX10_behind 50 = .ok (.getfield 100, 3) := dk_180 0 100 (dk_at dksX10_behind_2 4 rfl rfl)
theorem dX10_behind_53 : decode cX10_behind 53 = .ok (.iconst 5, 1) := dk_8 (dk_at dksX10_behind_2 7 rfl rfl)
theorem dX10_behind_54 : decode cX10_behind 54 = .ok (.iload_n 2, 1) := dk_28 (dk_at dksX10_behind_2 8 rfl rfl)
theorem dX10_behind_55 : decode cX10_behind 55 = .ok (.iadd, 1) := dk_96 (dk_at dksX10_behind_2 9 rfl rfl)
theorem dX10_behind_56 : decode cX10_behind 56 = .ok (.iaload, 1) := dk_46 (dk_at dksX10_behind_2 10 rfl rfl)
theorem dX10_behind_57 : decode cX10_behind 57 = .ok (.ireturn, 1) := dk_172 (dk_at dksX10_behind_2 11 rfl rfl)
def dkwX10_note_2 : List UInt8 := [27, 28, 29, 21, 4, 153, 0, 7, 4, 167, 0, 4, 3, 182, 2, 13, 172]
abbrev dktX10_note_2 : List UInt8 := dkwX10_note_2 ++ []
def dkwX10_note_1 : List UInt8 := [153, 0, 19, 42, 28, 182, 1, 187, 153, 0, 11, 42, 29, 182, 1, 208, 154, 0, 7, 2, 167, 0, 20, 42]
abbrev dktX10_note_1 : List UInt8 := dkwX10_note_1 ++ dktX10_note_2
def dkwX10_note_0 : List UInt8 := [42, 3, 181, 0, 148, 42, 180, 1, 118, 16, 24, 159, 0, 31, 27, 3, 42, 180, 0, 237, 184, 0, 193]
abbrev dktX10_note_0 : List UInt8 := dkwX10_note_0 ++ dktX10_note_1
theorem dksX10_note_0 : cX10_note.data.toList.drop 0 = dktX10_note_0 := by decide +kernel
theorem dksX10_note_1 : cX10_note.data.toList.drop 23 = dktX10_note_1 := dk_seg dksX10_note_0 23 rfl rfl
theorem dksX10_note_2 : cX10_note.data.toList.drop 47 = dktX10_note_2 := dk_seg dksX10_note_1 24 rfl rfl
theorem dX10_note_0 : decode cX10_note 0 = .ok (.aload_n 0, 1) := dk_42 (dk_at dksX10_note_0 0 rfl rfl)
theorem dX10_note_1 : decode cX10_note 1 = .ok (.iconst 0, 1) := dk_3 (dk_at dksX10_note_0 1 rfl rfl)
theorem dX10_note_2 : decode cX10_note 2 = .ok (.putfield 148, 3) := dk_181 0 148 (dk_at dksX10_note_0 2 rfl rfl)
theorem dX10_note_5 : decode cX10_note 5 = .ok (.aload_n 0, 1) := dk_42 (dk_at dksX10_note_0 5 rfl rfl)
theorem dX10_note_6 : decode cX10_note 6 = .ok (.getfield 374, 3) := dk_180 1 118 (dk_at dksX10_note_0 6 rfl rfl)
theorem dX10_note_9 : decode cX10_note 9 = .ok (.bipush 24, 2) := dk_16 24 (dk_at dksX10_note_0 9 rfl rfl)
theorem dX10_note_11 : decode cX10_note 11 = .ok (.if_icmp .eq 31, 3) := dk_159 0 31 (dk_at dksX10_note_0 11 rfl rfl)
theorem dX10_note_14 : decode cX10_note 14 = .ok (.iload_n 1, 1) := dk_27 (dk_at dksX10_note_0 14 rfl rfl)
theorem dX10_note_15 : decode cX10_note 15 = .ok (.iconst 0, 1) := dk_3 (dk_at dksX10_note_0 15 rfl rfl)
theorem dX10_note_16 : decode cX10_note 16 = .ok (.aload_n 0, 1) := dk_42 (dk_at dksX10_note_0 16 rfl rfl)
theorem dX10_note_17 : decode cX10_note 17 = .ok (.getfield 237, 3) := dk_180 0 237 (dk_at dksX10_note_0 17 rfl rfl)
theorem dX10_note_20 : decode cX10_note 20 = .ok (.invokestatic 193, 3) := dk_184 0 193 (dk_at dksX10_note_0 20 rfl rfl)
theorem dX10_note_23 : decode cX10_note 23 = .ok (.ifCond .eq 19, 3) := dk_153 0 19 (dk_at dksX10_note_1 0 rfl rfl)
theorem dX10_note_26 : decode cX10_note 26 = .ok (.aload_n 0, 1) := dk_42 (dk_at dksX10_note_1 3 rfl rfl)
theorem dX10_note_27 : decode cX10_note 27 = .ok (.iload_n 2, 1) := dk_28 (dk_at dksX10_note_1 4 rfl rfl)
theorem dX10_note_28 : decode cX10_note 28 = .ok (.invokevirtual 443, 3) := dk_182 1 187 (dk_at dksX10_note_1 5 rfl rfl)
theorem dX10_note_31 : decode cX10_note 31 = .ok (.ifCond .eq 11, 3) := dk_153 0 11 (dk_at dksX10_note_1 8 rfl rfl)
theorem dX10_note_34 : decode cX10_note 34 = .ok (.aload_n 0, 1) := dk_42 (dk_at dksX10_note_1 11 rfl rfl)
theorem dX10_note_35 : decode cX10_note 35 = .ok (.iload_n 3, 1) := dk_29 (dk_at dksX10_note_1 12 rfl rfl)
theorem dX10_note_36 : decode cX10_note 36 = .ok (.invokevirtual 464, 3) := dk_182 1 208 (dk_at dksX10_note_1 13 rfl rfl)
theorem dX10_note_39 : decode cX10_note 39 = .ok (.ifCond .ne 7, 3) := dk_154 0 7 (dk_at dksX10_note_1 16 rfl rfl)
theorem dX10_note_42 : decode cX10_note 42 = .ok (.iconst (-1), 1) := dk_2 (dk_at dksX10_note_1 19 rfl rfl)
theorem dX10_note_43 : decode cX10_note 43 = .ok (.goto 20, 3) := dk_167 0 20 (dk_at dksX10_note_1 20 rfl rfl)
theorem dX10_note_46 : decode cX10_note 46 = .ok (.aload_n 0, 1) := dk_42 (dk_at dksX10_note_1 23 rfl rfl)
theorem dX10_note_47 : decode cX10_note 47 = .ok (.iload_n 1, 1) := dk_27 (dk_at dksX10_note_2 0 rfl rfl)
theorem dX10_note_48 : decode cX10_note 48 = .ok (.iload_n 2, 1) := dk_28 (dk_at dksX10_note_2 1 rfl rfl)
theorem dX10_note_49 : decode cX10_note 49 = .ok (.iload_n 3, 1) := dk_29 (dk_at dksX10_note_2 2 rfl rfl)
theorem dX10_note_50 : decode cX10_note 50 = .ok (.iload 4, 2) := dk_21 4 (dk_at dksX10_note_2 3 rfl rfl)
theorem dX10_note_52 : decode cX10_note 52 = .ok (.ifCond .eq 7, 3) := dk_153 0 7 (dk_at dksX10_note_2 5 rfl rfl)
theorem dX10_note_55 : decode cX10_note 55 = .ok (.iconst 1, 1) := dk_4 (dk_at dksX10_note_2 8 rfl rfl)
theorem dX10_note_56 : decode cX10_note 56 = .ok (.goto 4, 3) := dk_167 0 4 (dk_at dksX10_note_2 9 rfl rfl)
theorem dX10_note_59 : decode cX10_note 59 = .ok (.iconst 0, 1) := dk_3 (dk_at dksX10_note_2 12 rfl rfl)
theorem dX10_note_60 : decode cX10_note 60 = .ok (.invokevirtual 525, 3) := dk_182 2 13 (dk_at dksX10_note_2 13 rfl rfl)
theorem dX10_note_63 : decode cX10_note 63 = .ok (.ireturn, 1) := dk_172 (dk_at dksX10_note_2 16 rfl rfl)
def dkwX10_noted_3 : List UInt8 := [100, 172]
abbrev dktX10_noted_3 : List UInt8 := dkwX10_noted_3 ++ []
def dkwX10_noted_2 : List UInt8 := [180, 1, 118, 104, 6, 96, 21, 4, 79, 42, 89, 180, 1, 118, 4, 96, 181, 1, 118, 42, 180, 1, 118, 4]
abbrev dktX10_noted_2 : List UInt8 := dkwX10_noted_2 ++ dktX10_noted_3
def dkwX10_noted_1 : List UInt8 := [28, 79, 42, 180, 0, 127, 7, 42, 180, 1, 118, 104, 5, 96, 29, 79, 42, 180, 0, 127, 7, 42]
abbrev dktX10_noted_1 : List UInt8 := dkwX10_noted_1 ++ dktX10_noted_2
def dkwX10_noted_0 : List UInt8 := [42, 180, 0, 127, 7, 42, 180, 1, 118, 104, 27, 79, 42, 180, 0, 127, 7, 42, 180, 1, 118, 104, 4, 96]
abbrev dktX10_noted_0 : List UInt8 := dkwX10_noted_0 ++ dktX10_noted_1
theorem dksX10_noted_0 : cX10_noted.data.toList.drop 0 = dktX10_noted_0 := by decide +kernel
theorem dksX10_noted_1 : cX10_noted.data.toList.drop 24 = dktX10_noted_1 := dk_seg dksX10_noted_0 24 rfl rfl
theorem dksX10_noted_2 : cX10_noted.data.toList.drop 46 = dktX10_noted_2 := dk_seg dksX10_noted_1 22 rfl rfl
theorem dksX10_noted_3 : cX10_noted.data.toList.drop 70 = dktX10_noted_3 := dk_seg dksX10_noted_2 24 rfl rfl
theorem dX10_noted_0 : decode cX10_noted 0 = .ok (.aload_n 0, 1) := dk_42 (dk_at dksX10_noted_0 0 rfl rfl)
theorem dX10_noted_1 : decode cX10_noted 1 = .ok (.getfield 127, 3) := dk_180 0 127 (dk_at dksX10_noted_0 1 rfl rfl)
theorem dX10_noted_4 : decode cX10_noted 4 = .ok (.iconst 4, 1) := dk_7 (dk_at dksX10_noted_0 4 rfl rfl)
theorem dX10_noted_5 : decode cX10_noted 5 = .ok (.aload_n 0, 1) := dk_42 (dk_at dksX10_noted_0 5 rfl rfl)
theorem dX10_noted_6 : decode cX10_noted 6 = .ok (.getfield 374, 3) := dk_180 1 118 (dk_at dksX10_noted_0 6 rfl rfl)
theorem dX10_noted_9 : decode cX10_noted 9 = .ok (.imul, 1) := dk_104 (dk_at dksX10_noted_0 9 rfl rfl)
theorem dX10_noted_10 : decode cX10_noted 10 = .ok (.iload_n 1, 1) := dk_27 (dk_at dksX10_noted_0 10 rfl rfl)
theorem dX10_noted_11 : decode cX10_noted 11 = .ok (.iastore, 1) := dk_79 (dk_at dksX10_noted_0 11 rfl rfl)
theorem dX10_noted_12 : decode cX10_noted 12 = .ok (.aload_n 0, 1) := dk_42 (dk_at dksX10_noted_0 12 rfl rfl)
theorem dX10_noted_13 : decode cX10_noted 13 = .ok (.getfield 127, 3) := dk_180 0 127 (dk_at dksX10_noted_0 13 rfl rfl)
theorem dX10_noted_16 : decode cX10_noted 16 = .ok (.iconst 4, 1) := dk_7 (dk_at dksX10_noted_0 16 rfl rfl)
theorem dX10_noted_17 : decode cX10_noted 17 = .ok (.aload_n 0, 1) := dk_42 (dk_at dksX10_noted_0 17 rfl rfl)
theorem dX10_noted_18 : decode cX10_noted 18 = .ok (.getfield 374, 3) := dk_180 1 118 (dk_at dksX10_noted_0 18 rfl rfl)
theorem dX10_noted_21 : decode cX10_noted 21 = .ok (.imul, 1) := dk_104 (dk_at dksX10_noted_0 21 rfl rfl)
theorem dX10_noted_22 : decode cX10_noted 22 = .ok (.iconst 1, 1) := dk_4 (dk_at dksX10_noted_0 22 rfl rfl)
theorem dX10_noted_23 : decode cX10_noted 23 = .ok (.iadd, 1) := dk_96 (dk_at dksX10_noted_0 23 rfl rfl)
theorem dX10_noted_24 : decode cX10_noted 24 = .ok (.iload_n 2, 1) := dk_28 (dk_at dksX10_noted_1 0 rfl rfl)
theorem dX10_noted_25 : decode cX10_noted 25 = .ok (.iastore, 1) := dk_79 (dk_at dksX10_noted_1 1 rfl rfl)
theorem dX10_noted_26 : decode cX10_noted 26 = .ok (.aload_n 0, 1) := dk_42 (dk_at dksX10_noted_1 2 rfl rfl)
theorem dX10_noted_27 : decode cX10_noted 27 = .ok (.getfield 127, 3) := dk_180 0 127 (dk_at dksX10_noted_1 3 rfl rfl)
theorem dX10_noted_30 : decode cX10_noted 30 = .ok (.iconst 4, 1) := dk_7 (dk_at dksX10_noted_1 6 rfl rfl)
theorem dX10_noted_31 : decode cX10_noted 31 = .ok (.aload_n 0, 1) := dk_42 (dk_at dksX10_noted_1 7 rfl rfl)
theorem dX10_noted_32 : decode cX10_noted 32 = .ok (.getfield 374, 3) := dk_180 1 118 (dk_at dksX10_noted_1 8 rfl rfl)
theorem dX10_noted_35 : decode cX10_noted 35 = .ok (.imul, 1) := dk_104 (dk_at dksX10_noted_1 11 rfl rfl)
theorem dX10_noted_36 : decode cX10_noted 36 = .ok (.iconst 2, 1) := dk_5 (dk_at dksX10_noted_1 12 rfl rfl)
theorem dX10_noted_37 : decode cX10_noted 37 = .ok (.iadd, 1) := dk_96 (dk_at dksX10_noted_1 13 rfl rfl)
theorem dX10_noted_38 : decode cX10_noted 38 = .ok (.iload_n 3, 1) := dk_29 (dk_at dksX10_noted_1 14 rfl rfl)
theorem dX10_noted_39 : decode cX10_noted 39 = .ok (.iastore, 1) := dk_79 (dk_at dksX10_noted_1 15 rfl rfl)
theorem dX10_noted_40 : decode cX10_noted 40 = .ok (.aload_n 0, 1) := dk_42 (dk_at dksX10_noted_1 16 rfl rfl)
theorem dX10_noted_41 : decode cX10_noted 41 = .ok (.getfield 127, 3) := dk_180 0 127 (dk_at dksX10_noted_1 17 rfl rfl)
theorem dX10_noted_44 : decode cX10_noted 44 = .ok (.iconst 4, 1) := dk_7 (dk_at dksX10_noted_1 20 rfl rfl)
theorem dX10_noted_45 : decode cX10_noted 45 = .ok (.aload_n 0, 1) := dk_42 (dk_at dksX10_noted_1 21 rfl rfl)
theorem dX10_noted_46 : decode cX10_noted 46 = .ok (.getfield 374, 3) := dk_180 1 118 (dk_at dksX10_noted_2 0 rfl rfl)
theorem dX10_noted_49 : decode cX10_noted 49 = .ok (.imul, 1) := dk_104 (dk_at dksX10_noted_2 3 rfl rfl)
theorem dX10_noted_50 : decode cX10_noted 50 = .ok (.iconst 3, 1) := dk_6 (dk_at dksX10_noted_2 4 rfl rfl)
theorem dX10_noted_51 : decode cX10_noted 51 = .ok (.iadd, 1) := dk_96 (dk_at dksX10_noted_2 5 rfl rfl)
theorem dX10_noted_52 : decode cX10_noted 52 = .ok (.iload 4, 2) := dk_21 4 (dk_at dksX10_noted_2 6 rfl rfl)
theorem dX10_noted_54 : decode cX10_noted 54 = .ok (.iastore, 1) := dk_79 (dk_at dksX10_noted_2 8 rfl rfl)
theorem dX10_noted_55 : decode cX10_noted 55 = .ok (.aload_n 0, 1) := dk_42 (dk_at dksX10_noted_2 9 rfl rfl)
theorem dX10_noted_56 : decode cX10_noted 56 = .ok (.dup, 1) := dk_89 (dk_at dksX10_noted_2 10 rfl rfl)
theorem dX10_noted_57 : decode cX10_noted 57 = .ok (.getfield 374, 3) := dk_180 1 118 (dk_at dksX10_noted_2 11 rfl rfl)
theorem dX10_noted_60 : decode cX10_noted 60 = .ok (.iconst 1, 1) := dk_4 (dk_at dksX10_noted_2 14 rfl rfl)
theorem dX10_noted_61 : decode cX10_noted 61 = .ok (.iadd, 1) := dk_96 (dk_at dksX10_noted_2 15 rfl rfl)
theorem dX10_noted_62 : decode cX10_noted 62 = .ok (.putfield 374, 3) := dk_181 1 118 (dk_at dksX10_noted_2 16 rfl rfl)
theorem dX10_noted_65 : decode cX10_noted 65 = .ok (.aload_n 0, 1) := dk_42 (dk_at dksX10_noted_2 19 rfl rfl)
theorem dX10_noted_66 : decode cX10_noted 66 = .ok (.getfield 374, 3) := dk_180 1 118 (dk_at dksX10_noted_2 20 rfl rfl)
theorem dX10_noted_69 : decode cX10_noted 69 = .ok (.iconst 1, 1) := dk_4 (dk_at dksX10_noted_2 23 rfl rfl)
theorem dX10_noted_70 : decode cX10_noted 70 = .ok (.isub, 1) := dk_100 (dk_at dksX10_noted_3 0 rfl rfl)
theorem dX10_noted_71 : decode cX10_noted 71 = .ok (.ireturn, 1) := dk_172 (dk_at dksX10_noted_3 1 rfl rfl)
def dkwX10_strike_1 : List UInt8 := [161, 0, 7, 2, 167, 0, 11, 42, 2, 27, 3, 3, 182, 2, 13, 172]
abbrev dktX10_strike_1 : List UInt8 := dkwX10_strike_1 ++ []
def dkwX10_strike_0 : List UInt8 := [42, 3, 181, 0, 148, 42, 180, 1, 118, 16, 24, 159, 0, 15, 27, 155, 0, 11, 27, 42, 180, 1, 118]
abbrev dktX10_strike_0 : List UInt8 := dkwX10_strike_0 ++ dktX10_strike_1
theorem dksX10_strike_0 : cX10_strike.data.toList.drop 0 = dktX10_strike_0 := by decide +kernel
theorem dksX10_strike_1 : cX10_strike.data.toList.drop 23 = dktX10_strike_1 := dk_seg dksX10_strike_0 23 rfl rfl
theorem dX10_strike_0 : decode cX10_strike 0 = .ok (.aload_n 0, 1) := dk_42 (dk_at dksX10_strike_0 0 rfl rfl)
theorem dX10_strike_1 : decode cX10_strike 1 = .ok (.iconst 0, 1) := dk_3 (dk_at dksX10_strike_0 1 rfl rfl)
theorem dX10_strike_2 : decode cX10_strike 2 = .ok (.putfield 148, 3) := dk_181 0 148 (dk_at dksX10_strike_0 2 rfl rfl)
theorem dX10_strike_5 : decode cX10_strike 5 = .ok (.aload_n 0, 1) := dk_42 (dk_at dksX10_strike_0 5 rfl rfl)
theorem dX10_strike_6 : decode cX10_strike 6 = .ok (.getfield 374, 3) := dk_180 1 118 (dk_at dksX10_strike_0 6 rfl rfl)
theorem dX10_strike_9 : decode cX10_strike 9 = .ok (.bipush 24, 2) := dk_16 24 (dk_at dksX10_strike_0 9 rfl rfl)
theorem dX10_strike_11 : decode cX10_strike 11 = .ok (.if_icmp .eq 15, 3) := dk_159 0 15 (dk_at dksX10_strike_0 11 rfl rfl)
theorem dX10_strike_14 : decode cX10_strike 14 = .ok (.iload_n 1, 1) := dk_27 (dk_at dksX10_strike_0 14 rfl rfl)
theorem dX10_strike_15 : decode cX10_strike 15 = .ok (.ifCond .lt 11, 3) := dk_155 0 11 (dk_at dksX10_strike_0 15 rfl rfl)
theorem dX10_strike_18 : decode cX10_strike 18 = .ok (.iload_n 1, 1) := dk_27 (dk_at dksX10_strike_0 18 rfl rfl)
theorem dX10_strike_19 : decode cX10_strike 19 = .ok (.aload_n 0, 1) := dk_42 (dk_at dksX10_strike_0 19 rfl rfl)
theorem dX10_strike_20 : decode cX10_strike 20 = .ok (.getfield 374, 3) := dk_180 1 118 (dk_at dksX10_strike_0 20 rfl rfl)
theorem dX10_strike_23 : decode cX10_strike 23 = .ok (.if_icmp .lt 7, 3) := dk_161 0 7 (dk_at dksX10_strike_1 0 rfl rfl)
theorem dX10_strike_26 : decode cX10_strike 26 = .ok (.iconst (-1), 1) := dk_2 (dk_at dksX10_strike_1 3 rfl rfl)
theorem dX10_strike_27 : decode cX10_strike 27 = .ok (.goto 11, 3) := dk_167 0 11 (dk_at dksX10_strike_1 4 rfl rfl)
theorem dX10_strike_30 : decode cX10_strike 30 = .ok (.aload_n 0, 1) := dk_42 (dk_at dksX10_strike_1 7 rfl rfl)
theorem dX10_strike_31 : decode cX10_strike 31 = .ok (.iconst (-1), 1) := dk_2 (dk_at dksX10_strike_1 8 rfl rfl)
theorem dX10_strike_32 : decode cX10_strike 32 = .ok (.iload_n 1, 1) := dk_27 (dk_at dksX10_strike_1 9 rfl rfl)
theorem dX10_strike_33 : decode cX10_strike 33 = .ok (.iconst 0, 1) := dk_3 (dk_at dksX10_strike_1 10 rfl rfl)
theorem dX10_strike_34 : decode cX10_strike 34 = .ok (.iconst 0, 1) := dk_3 (dk_at dksX10_strike_1 11 rfl rfl)
theorem dX10_strike_35 : decode cX10_strike 35 = .ok (.invokevirtual 525, 3) := dk_182 2 13 (dk_at dksX10_strike_1 12 rfl rfl)
theorem dX10_strike_38 : decode cX10_strike 38 = .ok (.ireturn, 1) := dk_172 (dk_at dksX10_strike_1 15 rfl rfl)
def dkwX10_known_1 : List UInt8 := [4, 172]
abbrev dktX10_known_1 : List UInt8 := dkwX10_known_1 ++ []
def dkwX10_known_0 : List UInt8 := [42, 3, 181, 0, 148, 27, 2, 42, 180, 1, 118, 184, 0, 193, 154, 0, 5, 3, 172, 42, 27, 181, 0, 124]
abbrev dktX10_known_0 : List UInt8 := dkwX10_known_0 ++ dktX10_known_1
theorem dksX10_known_0 : cX10_known.data.toList.drop 0 = dktX10_known_0 := by decide +kernel
theorem dksX10_known_1 : cX10_known.data.toList.drop 24 = dktX10_known_1 := dk_seg dksX10_known_0 24 rfl rfl
theorem dX10_known_0 : decode cX10_known 0 = .ok (.aload_n 0, 1) := dk_42 (dk_at dksX10_known_0 0 rfl rfl)
theorem dX10_known_1 : decode cX10_known 1 = .ok (.iconst 0, 1) := dk_3 (dk_at dksX10_known_0 1 rfl rfl)
theorem dX10_known_2 : decode cX10_known 2 = .ok (.putfield 148, 3) := dk_181 0 148 (dk_at dksX10_known_0 2 rfl rfl)
theorem dX10_known_5 : decode cX10_known 5 = .ok (.iload_n 1, 1) := dk_27 (dk_at dksX10_known_0 5 rfl rfl)
theorem dX10_known_6 : decode cX10_known 6 = .ok (.iconst (-1), 1) := dk_2 (dk_at dksX10_known_0 6 rfl rfl)
theorem dX10_known_7 : decode cX10_known 7 = .ok (.aload_n 0, 1) := dk_42 (dk_at dksX10_known_0 7 rfl rfl)
theorem dX10_known_8 : decode cX10_known 8 = .ok (.getfield 374, 3) := dk_180 1 118 (dk_at dksX10_known_0 8 rfl rfl)
theorem dX10_known_11 : decode cX10_known 11 = .ok (.invokestatic 193, 3) := dk_184 0 193 (dk_at dksX10_known_0 11 rfl rfl)
theorem dX10_known_14 : decode cX10_known 14 = .ok (.ifCond .ne 5, 3) := dk_154 0 5 (dk_at dksX10_known_0 14 rfl rfl)
theorem dX10_known_17 : decode cX10_known 17 = .ok (.iconst 0, 1) := dk_3 (dk_at dksX10_known_0 17 rfl rfl)
theorem dX10_known_18 : decode cX10_known 18 = .ok (.ireturn, 1) := dk_172 (dk_at dksX10_known_0 18 rfl rfl)
theorem dX10_known_19 : decode cX10_known 19 = .ok (.aload_n 0, 1) := dk_42 (dk_at dksX10_known_0 19 rfl rfl)
theorem dX10_known_20 : decode cX10_known 20 = .ok (.iload_n 1, 1) := dk_27 (dk_at dksX10_known_0 20 rfl rfl)
theorem dX10_known_21 : decode cX10_known 21 = .ok (.putfield 124, 3) := dk_181 0 124 (dk_at dksX10_known_0 21 rfl rfl)
theorem dX10_known_24 : decode cX10_known 24 = .ok (.iconst 1, 1) := dk_4 (dk_at dksX10_known_1 0 rfl rfl)
theorem dX10_known_25 : decode cX10_known 25 = .ok (.ireturn, 1) := dk_172 (dk_at dksX10_known_1 1 rfl rfl)
def dkwX10_knew_5 : List UInt8 := [167, 0, 4, 3, 128, 61, 132, 3, 1, 167, 255, 226, 28, 172]
abbrev dktX10_knew_5 : List UInt8 := dkwX10_knew_5 ++ []
def dkwX10_knew_4 : List UInt8 := [62, 29, 42, 180, 0, 228, 163, 0, 28, 28, 42, 27, 29, 182, 2, 22, 153, 0, 9, 4, 29, 120]
abbrev dktX10_knew_4 : List UInt8 := dkwX10_knew_4 ++ dktX10_knew_5
def dkwX10_knew_3 : List UInt8 := [180, 0, 130, 42, 180, 0, 127, 7, 28, 104, 4, 96, 46, 3, 84, 132, 2, 255, 167, 255, 213, 3, 61, 3]
abbrev dktX10_knew_3 : List UInt8 := dkwX10_knew_3 ++ dktX10_knew_4
def dkwX10_knew_2 : List UInt8 := [155, 0, 45, 42, 180, 0, 130, 28, 51, 153, 0, 30, 42, 180, 0, 127, 7, 28, 104, 46, 156, 0, 19, 42]
abbrev dktX10_knew_2 : List UInt8 := dkwX10_knew_2 ++ dktX10_knew_3
def dkwX10_knew_1 : List UInt8 := [162, 0, 16, 42, 180, 0, 130, 28, 4, 84, 132, 2, 1, 167, 255, 238, 42, 182, 2, 16, 4, 100, 61, 28]
abbrev dktX10_knew_1 : List UInt8 := dkwX10_knew_1 ++ dktX10_knew_2
def dkwX10_knew_0 : List UInt8 := [42, 3, 181, 0, 148, 42, 27, 182, 1, 187, 154, 0, 5, 2, 172, 3, 61, 28, 42, 182, 2, 16]
abbrev dktX10_knew_0 : List UInt8 := dkwX10_knew_0 ++ dktX10_knew_1
theorem dksX10_knew_0 : cX10_knew.data.toList.drop 0 = dktX10_knew_0 := by decide +kernel
theorem dksX10_knew_1 : cX10_knew.data.toList.drop 22 = dktX10_knew_1 := dk_seg dksX10_knew_0 22 rfl rfl
theorem dksX10_knew_2 : cX10_knew.data.toList.drop 46 = dktX10_knew_2 := dk_seg dksX10_knew_1 24 rfl rfl
theorem dksX10_knew_3 : cX10_knew.data.toList.drop 70 = dktX10_knew_3 := dk_seg dksX10_knew_2 24 rfl rfl
theorem dksX10_knew_4 : cX10_knew.data.toList.drop 94 = dktX10_knew_4 := dk_seg dksX10_knew_3 24 rfl rfl
theorem dksX10_knew_5 : cX10_knew.data.toList.drop 116 = dktX10_knew_5 := dk_seg dksX10_knew_4 22 rfl rfl
theorem dX10_knew_0 : decode cX10_knew 0 = .ok (.aload_n 0, 1) := dk_42 (dk_at dksX10_knew_0 0 rfl rfl)
theorem dX10_knew_1 : decode cX10_knew 1 = .ok (.iconst 0, 1) := dk_3 (dk_at dksX10_knew_0 1 rfl rfl)
theorem dX10_knew_2 : decode cX10_knew 2 = .ok (.putfield 148, 3) := dk_181 0 148 (dk_at dksX10_knew_0 2 rfl rfl)
theorem dX10_knew_5 : decode cX10_knew 5 = .ok (.aload_n 0, 1) := dk_42 (dk_at dksX10_knew_0 5 rfl rfl)
theorem dX10_knew_6 : decode cX10_knew 6 = .ok (.iload_n 1, 1) := dk_27 (dk_at dksX10_knew_0 6 rfl rfl)
theorem dX10_knew_7 : decode cX10_knew 7 = .ok (.invokevirtual 443, 3) := dk_182 1 187 (dk_at dksX10_knew_0 7 rfl rfl)
theorem dX10_knew_10 : decode cX10_knew 10 = .ok (.ifCond .ne 5, 3) := dk_154 0 5 (dk_at dksX10_knew_0 10 rfl rfl)
theorem dX10_knew_13 : decode cX10_knew 13 = .ok (.iconst (-1), 1) := dk_2 (dk_at dksX10_knew_0 13 rfl rfl)
theorem dX10_knew_14 : decode cX10_knew 14 = .ok (.ireturn, 1) := dk_172 (dk_at dksX10_knew_0 14 rfl rfl)
theorem dX10_knew_15 : decode cX10_knew 15 = .ok (.iconst 0, 1) := dk_3 (dk_at dksX10_knew_0 15 rfl rfl)
theorem dX10_knew_16 : decode cX10_knew 16 = .ok (.istore_n 2, 1) := dk_61 (dk_at dksX10_knew_0 16 rfl rfl)
theorem dX10_knew_17 : decode cX10_knew 17 = .ok (.iload_n 2, 1) := dk_28 (dk_at dksX10_knew_0 17 rfl rfl)
theorem dX10_knew_18 : decode cX10_knew 18 = .ok (.aload_n 0, 1) := dk_42 (dk_at dksX10_knew_0 18 rfl rfl)
theorem dX10_knew_19 : decode cX10_knew 19 = .ok (.invokevirtual 528, 3) := dk_182 2 16 (dk_at dksX10_knew_0 19 rfl rfl)
theorem dX10_knew_22 : decode cX10_knew 22 = .ok (.if_icmp .ge 16, 3) := dk_162 0 16 (dk_at dksX10_knew_1 0 rfl rfl)
theorem dX10_knew_25 : decode cX10_knew 25 = .ok (.aload_n 0, 1) := dk_42 (dk_at dksX10_knew_1 3 rfl rfl)
theorem dX10_knew_26 : decode cX10_knew 26 = .ok (.getfield 130, 3) := dk_180 0 130 (dk_at dksX10_knew_1 4 rfl rfl)
theorem dX10_knew_29 : decode cX10_knew 29 = .ok (.iload_n 2, 1) := dk_28 (dk_at dksX10_knew_1 7 rfl rfl)
theorem dX10_knew_30 : decode cX10_knew 30 = .ok (.iconst 1, 1) := dk_4 (dk_at dksX10_knew_1 8 rfl rfl)
theorem dX10_knew_31 : decode cX10_knew 31 = .ok (.bastore, 1) := dk_84 (dk_at dksX10_knew_1 9 rfl rfl)
theorem dX10_knew_32 : decode cX10_knew 32 = .ok (.iinc 2 1, 3) := dk_132 2 1 (dk_at dksX10_knew_1 10 rfl rfl)
theorem dX10_knew_35 : decode cX10_knew 35 = .ok (.goto (-18), 3) := dk_167 255 238 (dk_at dksX10_knew_1 13 rfl rfl)
theorem dX10_knew_38 : decode cX10_knew 38 = .ok (.aload_n 0, 1) := dk_42 (dk_at dksX10_knew_1 16 rfl rfl)
theorem dX10_knew_39 : decode cX10_knew 39 = .ok (.invokevirtual 528, 3) := dk_182 2 16 (dk_at dksX10_knew_1 17 rfl rfl)
theorem dX10_knew_42 : decode cX10_knew 42 = .ok (.iconst 1, 1) := dk_4 (dk_at dksX10_knew_1 20 rfl rfl)
theorem dX10_knew_43 : decode cX10_knew 43 = .ok (.isub, 1) := dk_100 (dk_at dksX10_knew_1 21 rfl rfl)
theorem dX10_knew_44 : decode cX10_knew 44 = .ok (.istore_n 2, 1) := dk_61 (dk_at dksX10_knew_1 22 rfl rfl)
theorem dX10_knew_45 : decode cX10_knew 45 = .ok (.iload_n 2, 1) := dk_28 (dk_at dksX10_knew_1 23 rfl rfl)
theorem dX10_knew_46 : decode cX10_knew 46 = .ok (.ifCond .lt 45, 3) := dk_155 0 45 (dk_at dksX10_knew_2 0 rfl rfl)
theorem dX10_knew_49 : decode cX10_knew 49 = .ok (.aload_n 0, 1) := dk_42 (dk_at dksX10_knew_2 3 rfl rfl)
theorem dX10_knew_50 : decode cX10_knew 50 = .ok (.getfield 130, 3) := dk_180 0 130 (dk_at dksX10_knew_2 4 rfl rfl)
theorem dX10_knew_53 : decode cX10_knew 53 = .ok (.iload_n 2, 1) := dk_28 (dk_at dksX10_knew_2 7 rfl rfl)
theorem dX10_knew_54 : decode cX10_knew 54 = .ok (.baload, 1) := dk_51 (dk_at dksX10_knew_2 8 rfl rfl)
theorem dX10_knew_55 : decode cX10_knew 55 = .ok (.ifCond .eq 30, 3) := dk_153 0 30 (dk_at dksX10_knew_2 9 rfl rfl)
theorem dX10_knew_58 : decode cX10_knew 58 = .ok (.aload_n 0, 1) := dk_42 (dk_at dksX10_knew_2 12 rfl rfl)
theorem dX10_knew_59 : decode cX10_knew 59 = .ok (.getfield 127, 3) := dk_180 0 127 (dk_at dksX10_knew_2 13 rfl rfl)
theorem dX10_knew_62 : decode cX10_knew 62 = .ok (.iconst 4, 1) := dk_7 (dk_at dksX10_knew_2 16 rfl rfl)
theorem dX10_knew_63 : decode cX10_knew 63 = .ok (.iload_n 2, 1) := dk_28 (dk_at dksX10_knew_2 17 rfl rfl)
theorem dX10_knew_64 : decode cX10_knew 64 = .ok (.imul, 1) := dk_104 (dk_at dksX10_knew_2 18 rfl rfl)
theorem dX10_knew_65 : decode cX10_knew 65 = .ok (.iaload, 1) := dk_46 (dk_at dksX10_knew_2 19 rfl rfl)
theorem dX10_knew_66 : decode cX10_knew 66 = .ok (.ifCond .ge 19, 3) := dk_156 0 19 (dk_at dksX10_knew_2 20 rfl rfl)
theorem dX10_knew_69 : decode cX10_knew 69 = .ok (.aload_n 0, 1) := dk_42 (dk_at dksX10_knew_2 23 rfl rfl)
theorem dX10_knew_70 : decode cX10_knew 70 = .ok (.getfield 130, 3) := dk_180 0 130 (dk_at dksX10_knew_3 0 rfl rfl)
theorem dX10_knew_73 : decode cX10_knew 73 = .ok (.aload_n 0, 1) := dk_42 (dk_at dksX10_knew_3 3 rfl rfl)
theorem dX10_knew_74 : decode cX10_knew 74 = .ok (.getfield 127, 3) := dk_180 0 127 (dk_at dksX10_knew_3 4 rfl rfl)
theorem dX10_knew_77 : decode cX10_knew 77 = .ok (.iconst 4, 1) := dk_7 (dk_at dksX10_knew_3 7 rfl rfl)
theorem dX10_knew_78 : decode cX10_knew 78 = .ok (.iload_n 2, 1) := dk_28 (dk_at dksX10_knew_3 8 rfl rfl)
theorem dX10_knew_79 : decode cX10_knew 79 = .ok (.imul, 1) := dk_104 (dk_at dksX10_knew_3 9 rfl rfl)
theorem dX10_knew_80 : decode cX10_knew 80 = .ok (.iconst 1, 1) := dk_4 (dk_at dksX10_knew_3 10 rfl rfl)
theorem dX10_knew_81 : decode cX10_knew 81 = .ok (.iadd, 1) := dk_96 (dk_at dksX10_knew_3 11 rfl rfl)
theorem dX10_knew_82 : decode cX10_knew 82 = .ok (.iaload, 1) := dk_46 (dk_at dksX10_knew_3 12 rfl rfl)
theorem dX10_knew_83 : decode cX10_knew 83 = .ok (.iconst 0, 1) := dk_3 (dk_at dksX10_knew_3 13 rfl rfl)
theorem dX10_knew_84 : decode cX10_knew 84 = .ok (.bastore, 1) := dk_84 (dk_at dksX10_knew_3 14 rfl rfl)
theorem dX10_knew_85 : decode cX10_knew 85 = .ok (.iinc 2 (-1), 3) := dk_132 2 255 (dk_at dksX10_knew_3 15 rfl rfl)
theorem dX10_knew_88 : decode cX10_knew 88 = .ok (.goto (-43), 3) := dk_167 255 213 (dk_at dksX10_knew_3 18 rfl rfl)
theorem dX10_knew_91 : decode cX10_knew 91 = .ok (.iconst 0, 1) := dk_3 (dk_at dksX10_knew_3 21 rfl rfl)
theorem dX10_knew_92 : decode cX10_knew 92 = .ok (.istore_n 2, 1) := dk_61 (dk_at dksX10_knew_3 22 rfl rfl)
theorem dX10_knew_93 : decode cX10_knew 93 = .ok (.iconst 0, 1) := dk_3 (dk_at dksX10_knew_3 23 rfl rfl)
theorem dX10_knew_94 : decode cX10_knew 94 = .ok (.istore_n 3, 1) := dk_62 (dk_at dksX10_knew_4 0 rfl rfl)
theorem dX10_knew_95 : decode cX10_knew 95 = .ok (.iload_n 3, 1) := dk_29 (dk_at dksX10_knew_4 1 rfl rfl)
theorem dX10_knew_96 : decode cX10_knew 96 = .ok (.aload_n 0, 1) := dk_42 (dk_at dksX10_knew_4 2 rfl rfl)
theorem dX10_knew_97 : decode cX10_knew 97 = .ok (.getfield 228, 3) := dk_180 0 228 (dk_at dksX10_knew_4 3 rfl rfl)
theorem dX10_knew_100 : decode cX10_knew 100 = .ok (.if_icmp .gt 28, 3) := dk_163 0 28 (dk_at dksX10_knew_4 6 rfl rfl)
theorem dX10_knew_103 : decode cX10_knew 103 = .ok (.iload_n 2, 1) := dk_28 (dk_at dksX10_knew_4 9 rfl rfl)
theorem dX10_knew_104 : decode cX10_knew 104 = .ok (.aload_n 0, 1) := dk_42 (dk_at dksX10_knew_4 10 rfl rfl)
theorem dX10_knew_105 : decode cX10_knew 105 = .ok (.iload_n 1, 1) := dk_27 (dk_at dksX10_knew_4 11 rfl rfl)
theorem dX10_knew_106 : decode cX10_knew 106 = .ok (.iload_n 3, 1) := dk_29 (dk_at dksX10_knew_4 12 rfl rfl)
theorem dX10_knew_107 : decode cX10_knew 107 = .ok (.invokevirtual 534, 3) := dk_182 2 22 (dk_at dksX10_knew_4 13 rfl rfl)
theorem dX10_knew_110 : decode cX10_knew 110 = .ok (.ifCond .eq 9, 3) := dk_153 0 9 (dk_at dksX10_knew_4 16 rfl rfl)
theorem dX10_knew_113 : decode cX10_knew 113 = .ok (.iconst 1, 1) := dk_4 (dk_at dksX10_knew_4 19 rfl rfl)
theorem dX10_knew_114 : decode cX10_knew 114 = .ok (.iload_n 3, 1) := dk_29 (dk_at dksX10_knew_4 20 rfl rfl)
theorem dX10_knew_115 : decode cX10_knew 115 = .ok (.ishl, 1) := dk_120 (dk_at dksX10_knew_4 21 rfl rfl)
theorem dX10_knew_116 : decode cX10_knew 116 = .ok (.goto 4, 3) := dk_167 0 4 (dk_at dksX10_knew_5 0 rfl rfl)
theorem dX10_knew_119 : decode cX10_knew 119 = .ok (.iconst 0, 1) := dk_3 (dk_at dksX10_knew_5 3 rfl rfl)
theorem dX10_knew_120 : decode cX10_knew 120 = .ok (.ior, 1) := dk_128 (dk_at dksX10_knew_5 4 rfl rfl)
theorem dX10_knew_121 : decode cX10_knew 121 = .ok (.istore_n 2, 1) := dk_61 (dk_at dksX10_knew_5 5 rfl rfl)
theorem dX10_knew_122 : decode cX10_knew 122 = .ok (.iinc 3 1, 3) := dk_132 3 1 (dk_at dksX10_knew_5 6 rfl rfl)
theorem dX10_knew_125 : decode cX10_knew 125 = .ok (.goto (-30), 3) := dk_167 255 226 (dk_at dksX10_knew_5 9 rfl rfl)
theorem dX10_knew_128 : decode cX10_knew 128 = .ok (.iload_n 2, 1) := dk_28 (dk_at dksX10_knew_5 12 rfl rfl)
theorem dX10_knew_129 : decode cX10_knew 129 = .ok (.ireturn, 1) := dk_172 (dk_at dksX10_knew_5 13 rfl rfl)
def dkwX10_knownBy_0 : List UInt8 := [42, 180, 0, 124, 156, 0, 10, 42, 180, 1, 118, 167, 0, 7, 42, 180, 0, 124, 172]
abbrev dktX10_knownBy_0 : List UInt8 := dkwX10_knownBy_0 ++ []
theorem dksX10_knownBy_0 : cX10_knownBy.data.toList.drop 0 = dktX10_knownBy_0 := by decide +kernel
theorem dX10_knownBy_0 : decode cX10_knownBy 0 = .ok (.aload_n 0, 1) := dk_42 (dk_at dksX10_knownBy_0 0 rfl rfl)
theorem dX10_knownBy_1 : decode cX10_knownBy 1 = .ok (.getfield 124, 3) := dk_180 0 124 (dk_at dksX10_knownBy_0 1 rfl rfl)
theorem dX10_knownBy_4 : decode cX10_knownBy 4 = .ok (.ifCond .ge 10, 3) := dk_156 0 10 (dk_at dksX10_knownBy_0 4 rfl rfl)
theorem dX10_knownBy_7 : decode cX10_knownBy 7 = .ok (.aload_n 0, 1) := dk_42 (dk_at dksX10_knownBy_0 7 rfl rfl)
theorem dX10_knownBy_8 : decode cX10_knownBy 8 = .ok (.getfield 374, 3) := dk_180 1 118 (dk_at dksX10_knownBy_0 8 rfl rfl)
theorem dX10_knownBy_11 : decode cX10_knownBy 11 = .ok (.goto 7, 3) := dk_167 0 7 (dk_at dksX10_knownBy_0 11 rfl rfl)
theorem dX10_knownBy_14 : decode cX10_knownBy 14 = .ok (.aload_n 0, 1) := dk_42 (dk_at dksX10_knownBy_0 14 rfl rfl)
theorem dX10_knownBy_15 : decode cX10_knownBy 15 = .ok (.getfield 124, 3) := dk_180 0 124 (dk_at dksX10_knownBy_0 15 rfl rfl)
theorem dX10_knownBy_18 : decode cX10_knownBy 18 = .ok (.ireturn, 1) := dk_172 (dk_at dksX10_knownBy_0 18 rfl rfl)
def dkwX10_fits_2 : List UInt8 := [42, 21, 4, 182, 2, 10, 42, 21, 4, 4, 96, 182, 2, 19, 62, 132, 4, 1, 167, 255, 225, 29, 172]
abbrev dktX10_fits_2 : List UInt8 := dkwX10_fits_2 ++ []
def dkwX10_fits_1 : List UInt8 := [128, 79, 42, 3, 182, 2, 19, 62, 3, 54, 4, 21, 4, 42, 180, 0, 237, 162, 0, 28, 29, 153, 0, 24]
abbrev dktX10_fits_1 : List UInt8 := dkwX10_fits_1 ++ dktX10_fits_2
def dkwX10_fits_0 : List UInt8 := [42, 182, 2, 7, 28, 42, 180, 0, 228, 162, 0, 17, 42, 180, 0, 100, 8, 27, 96, 92, 46, 4, 28, 120]
abbrev dktX10_fits_0 : List UInt8 := dkwX10_fits_0 ++ dktX10_fits_1
theorem dksX10_fits_0 : cX10_fits.data.toList.drop 0 = dktX10_fits_0 := by decide +kernel
theorem dksX10_fits_1 : cX10_fits.data.toList.drop 24 = dktX10_fits_1 := dk_seg dksX10_fits_0 24 rfl rfl
theorem dksX10_fits_2 : cX10_fits.data.toList.drop 48 = dktX10_fits_2 := dk_seg dksX10_fits_1 24 rfl rfl
theorem dX10_fits_0 : decode cX10_fits 0 = .ok (.aload_n 0, 1) := dk_42 (dk_at dksX10_fits_0 0 rfl rfl)
theorem dX10_fits_1 : decode cX10_fits 1 = .ok (.invokevirtual 519, 3) := dk_182 2 7 (dk_at dksX10_fits_0 1 rfl rfl)
theorem dX10_fits_4 : decode cX10_fits 4 = .ok (.iload_n 2, 1) := dk_28 (dk_at dksX10_fits_0 4 rfl rfl)
theorem dX10_fits_5 : decode cX10_fits 5 = .ok (.aload_n 0, 1) := dk_42 (dk_at dksX10_fits_0 5 rfl rfl)
theorem dX10_fits_6 : decode cX10_fits 6 = .ok (.getfield 228, 3) := dk_180 0 228 (dk_at dksX10_fits_0 6 rfl rfl)
theorem dX10_fits_9 : decode cX10_fits 9 = .ok (.if_icmp .ge 17, 3) := dk_162 0 17 (dk_at dksX10_fits_0 9 rfl rfl)
theorem dX10_fits_12 : decode cX10_fits 12 = .ok (.aload_n 0, 1) := dk_42 (dk_at dksX10_fits_0 12 rfl rfl)
theorem dX10_fits_13 : decode cX10_fits 13 = .ok (.getfield 100, 3) := dk_180 0 100 (dk_at dksX10_fits_0 13 rfl rfl)
theorem dX10_fits_16 : decode cX10_fits 16 = .ok (.iconst 5, 1) := dk_8 (dk_at dksX10_fits_0 16 rfl rfl)
theorem dX10_fits_17 : decode cX10_fits 17 = .ok (.iload_n 1, 1) := dk_27 (dk_at dksX10_fits_0 17 rfl rfl)
theorem dX10_fits_18 : decode cX10_fits 18 = .ok (.iadd, 1) := dk_96 (dk_at dksX10_fits_0 18 rfl rfl)
theorem dX10_fits_19 : decode cX10_fits 19 = .ok (.dup2, 1) := dk_92 (dk_at dksX10_fits_0 19 rfl rfl)
theorem dX10_fits_20 : decode cX10_fits 20 = .ok (.iaload, 1) := dk_46 (dk_at dksX10_fits_0 20 rfl rfl)
theorem dX10_fits_21 : decode cX10_fits 21 = .ok (.iconst 1, 1) := dk_4 (dk_at dksX10_fits_0 21 rfl rfl)
theorem dX10_fits_22 : decode cX10_fits 22 = .ok (.iload_n 2, 1) := dk_28 (dk_at dksX10_fits_0 22 rfl rfl)
theorem dX10_fits_23 : decode cX10_fits 23 = .ok (.ishl, 1) := dk_120 (dk_at dksX10_fits_0 23 rfl rfl)
theorem dX10_fits_24 : decode cX10_fits 24 = .ok (.ior, 1) := dk_128 (dk_at dksX10_fits_1 0 rfl rfl)
theorem dX10_fits_25 : decode cX10_fits 25 = .ok (.iastore, 1) := dk_79 (dk_at dksX10_fits_1 1 rfl rfl)
theorem dX10_fits_26 : decode cX10_fits 26 = .ok (.aload_n 0, 1) := dk_42 (dk_at dksX10_fits_1 2 rfl rfl)
theorem dX10_fits_27 : decode cX10_fits 27 = .ok (.iconst 0, 1) := dk_3 (dk_at dksX10_fits_1 3 rfl rfl)
theorem dX10_fits_28 : decode cX10_fits 28 = .ok (.invokevirtual 531, 3) := dk_182 2 19 (dk_at dksX10_fits_1 4 rfl rfl)
theorem dX10_fits_31 : decode cX10_fits 31 = .ok (.istore_n 3, 1) := dk_62 (dk_at dksX10_fits_1 7 rfl rfl)
theorem dX10_fits_32 : decode cX10_fits 32 = .ok (.iconst 0, 1) := dk_3 (dk_at dksX10_fits_1 8 rfl rfl)
theorem dX10_fits_33 : decode cX10_fits 33 = .ok (.istore 4, 2) := dk_54 4 (dk_at dksX10_fits_1 9 rfl rfl)
theorem dX10_fits_35 : decode cX10_fits 35 = .ok (.iload 4, 2) := dk_21 4 (dk_at dksX10_fits_1 11 rfl rfl)
theorem dX10_fits_37 : decode cX10_fits 37 = .ok (.aload_n 0, 1) := dk_42 (dk_at dksX10_fits_1 13 rfl rfl)
theorem dX10_fits_38 : decode cX10_fits 38 = .ok (.getfield 237, 3) := dk_180 0 237 (dk_at dksX10_fits_1 14 rfl rfl)
theorem dX10_fits_41 : decode cX10_fits 41 = .ok (.if_icmp .ge 28, 3) := dk_162 0 28 (dk_at dksX10_fits_1 17 rfl rfl)
theorem dX10_fits_44 : decode cX10_fits 44 = .ok (.iload_n 3, 1) := dk_29 (dk_at dksX10_fits_1 20 rfl rfl)
theorem dX10_fits_45 : decode cX10_fits 45 = .ok (.ifCond .eq 24, 3) := dk_153 0 24 (dk_at dksX10_fits_1 21 rfl rfl)
theorem dX10_fits_48 : decode cX10_fits 48 = .ok (.aload_n 0, 1) := dk_42 (dk_at dksX10_fits_2 0 rfl rfl)
theorem dX10_fits_49 : decode cX10_fits 49 = .ok (.iload 4, 2) := dk_21 4 (dk_at dksX10_fits_2 1 rfl rfl)
theorem dX10_fits_51 : decode cX10_fits 51 = .ok (.invokevirtual 522, 3) := dk_182 2 10 (dk_at dksX10_fits_2 3 rfl rfl)
theorem dX10_fits_54 : decode cX10_fits 54 = .ok (.aload_n 0, 1) := dk_42 (dk_at dksX10_fits_2 6 rfl rfl)
theorem dX10_fits_55 : decode cX10_fits 55 = .ok (.iload 4, 2) := dk_21 4 (dk_at dksX10_fits_2 7 rfl rfl)
theorem dX10_fits_57 : decode cX10_fits 57 = .ok (.iconst 1, 1) := dk_4 (dk_at dksX10_fits_2 9 rfl rfl)
theorem dX10_fits_58 : decode cX10_fits 58 = .ok (.iadd, 1) := dk_96 (dk_at dksX10_fits_2 10 rfl rfl)
theorem dX10_fits_59 : decode cX10_fits 59 = .ok (.invokevirtual 531, 3) := dk_182 2 19 (dk_at dksX10_fits_2 11 rfl rfl)
theorem dX10_fits_62 : decode cX10_fits 62 = .ok (.istore_n 3, 1) := dk_62 (dk_at dksX10_fits_2 14 rfl rfl)
theorem dX10_fits_63 : decode cX10_fits 63 = .ok (.iinc 4 1, 3) := dk_132 4 1 (dk_at dksX10_fits_2 15 rfl rfl)
theorem dX10_fits_66 : decode cX10_fits 66 = .ok (.goto (-31), 3) := dk_167 255 225 (dk_at dksX10_fits_2 18 rfl rfl)
theorem dX10_fits_69 : decode cX10_fits 69 = .ok (.iload_n 3, 1) := dk_29 (dk_at dksX10_fits_2 21 rfl rfl)
theorem dX10_fits_70 : decode cX10_fits 70 = .ok (.ireturn, 1) := dk_172 (dk_at dksX10_fits_2 22 rfl rfl)
def dkwX10_isSo_3 : List UInt8 := [96, 46, 4, 160, 0, 7, 4, 167, 0, 4, 3, 159, 0, 5, 3, 172, 132, 2, 1, 167, 255, 167, 4, 172]
abbrev dktX10_isSo_3 : List UInt8 := dkwX10_isSo_3 ++ []
def dkwX10_isSo_2 : List UInt8 := [46, 96, 46, 42, 180, 0, 127, 7, 28, 104, 5, 96, 46, 184, 1, 8, 42, 180, 0, 127, 7, 28, 104, 6]
abbrev dktX10_isSo_2 : List UInt8 := dkwX10_isSo_2 ++ dktX10_isSo_3
def dkwX10_isSo_1 : List UInt8 := [28, 104, 46, 27, 159, 0, 6, 167, 0, 57, 42, 180, 0, 100, 8, 42, 180, 0, 127, 7, 28, 104, 4, 96]
abbrev dktX10_isSo_1 : List UInt8 := dkwX10_isSo_1 ++ dktX10_isSo_2
def dkwX10_isSo_0 : List UInt8 := [3, 61, 28, 42, 182, 2, 16, 162, 0, 87, 42, 180, 0, 130, 28, 51, 153, 0, 72, 42, 180, 0, 127, 7]
abbrev dktX10_isSo_0 : List UInt8 := dkwX10_isSo_0 ++ dktX10_isSo_1
theorem dksX10_isSo_0 : cX10_isSo.data.toList.drop 0 = dktX10_isSo_0 := by decide +kernel
theorem dksX10_isSo_1 : cX10_isSo.data.toList.drop 24 = dktX10_isSo_1 := dk_seg dksX10_isSo_0 24 rfl rfl
theorem dksX10_isSo_2 : cX10_isSo.data.toList.drop 48 = dktX10_isSo_2 := dk_seg dksX10_isSo_1 24 rfl rfl
theorem dksX10_isSo_3 : cX10_isSo.data.toList.drop 72 = dktX10_isSo_3 := dk_seg dksX10_isSo_2 24 rfl rfl
theorem dX10_isSo_0 : decode cX10_isSo 0 = .ok (.iconst 0, 1) := dk_3 (dk_at dksX10_isSo_0 0 rfl rfl)
theorem dX10_isSo_1 : decode cX10_isSo 1 = .ok (.istore_n 2, 1) := dk_61 (dk_at dksX10_isSo_0 1 rfl rfl)
theorem dX10_isSo_2 : decode cX10_isSo 2 = .ok (.iload_n 2, 1) := dk_28 (dk_at dksX10_isSo_0 2 rfl rfl)
theorem dX10_isSo_3 : decode cX10_isSo 3 = .ok (.aload_n 0, 1) := dk_42 (dk_at dksX10_isSo_0 3 rfl rfl)
theorem dX10_isSo_4 : decode cX10_isSo 4 = .ok (.invokevirtual 528, 3) := dk_182 2 16 (dk_at dksX10_isSo_0 4 rfl rfl)
theorem dX10_isSo_7 : decode cX10_isSo 7 = .ok (.if_icmp .ge 87, 3) := dk_162 0 87 (dk_at dksX10_isSo_0 7 rfl rfl)
theorem dX10_isSo_10 : decode cX10_isSo 10 = .ok (.aload_n 0, 1) := dk_42 (dk_at dksX10_isSo_0 10 rfl rfl)
theorem dX10_isSo_11 : decode cX10_isSo 11 = .ok (.getfield 130, 3) := dk_180 0 130 (dk_at dksX10_isSo_0 11 rfl rfl)
theorem dX10_isSo_14 : decode cX10_isSo 14 = .ok (.iload_n 2, 1) := dk_28 (dk_at dksX10_isSo_0 14 rfl rfl)
theorem dX10_isSo_15 : decode cX10_isSo 15 = .ok (.baload, 1) := dk_51 (dk_at dksX10_isSo_0 15 rfl rfl)
theorem dX10_isSo_16 : decode cX10_isSo 16 = .ok (.ifCond .eq 72, 3) := dk_153 0 72 (dk_at dksX10_isSo_0 16 rfl rfl)
theorem dX10_isSo_19 : decode cX10_isSo 19 = .ok (.aload_n 0, 1) := dk_42 (dk_at dksX10_isSo_0 19 rfl rfl)
theorem dX10_isSo_20 : decode cX10_isSo 20 = .ok (.getfield 127, 3) := dk_180 0 127 (dk_at dksX10_isSo_0 20 rfl rfl)
theorem dX10_isSo_23 : decode cX10_isSo 23 = .ok (.iconst 4, 1) := dk_7 (dk_at dksX10_isSo_0 23 rfl rfl)
theorem dX10_isSo_24 : decode cX10_isSo 24 = .ok (.iload_n 2, 1) := dk_28 (dk_at dksX10_isSo_1 0 rfl rfl)
theorem dX10_isSo_25 : decode cX10_isSo 25 = .ok (.imul, 1) := dk_104 (dk_at dksX10_isSo_1 1 rfl rfl)
theorem dX10_isSo_26 : decode cX10_isSo 26 = .ok (.iaload, 1) := dk_46 (dk_at dksX10_isSo_1 2 rfl rfl)
theorem dX10_isSo_27 : decode cX10_isSo 27 = .ok (.iload_n 1, 1) := dk_27 (dk_at dksX10_isSo_1 3 rfl rfl)
theorem dX10_isSo_28 : decode cX10_isSo 28 = .ok (.if_icmp .eq 6, 3) := dk_159 0 6 (dk_at dksX10_isSo_1 4 rfl rfl)
theorem dX10_isSo_31 : decode cX10_isSo 31 = .ok (.goto 57, 3) := dk_167 0 57 (dk_at dksX10_isSo_1 7 rfl rfl)
theorem dX10_isSo_34 : decode cX10_isSo 34 = .ok (.aload_n 0, 1) := dk_42 (dk_at dksX10_isSo_1 10 rfl rfl)
theorem dX10_isSo_35 : decode cX10_isSo 35 = .ok (.getfield 100, 3) := dk_180 0 100 (dk_at dksX10_isSo_1 11 rfl rfl)
theorem dX10_isSo_38 : decode cX10_isSo 38 = .ok (.iconst 5, 1) := dk_8 (dk_at dksX10_isSo_1 14 rfl rfl)
theorem dX10_isSo_39 : decode cX10_isSo 39 = .ok (.aload_n 0, 1) := dk_42 (dk_at dksX10_isSo_1 15 rfl rfl)
theorem dX10_isSo_40 : decode cX10_isSo 40 = .ok (.getfield 127, 3) := dk_180 0 127 (dk_at dksX10_isSo_1 16 rfl rfl)
theorem dX10_isSo_43 : decode cX10_isSo 43 = .ok (.iconst 4, 1) := dk_7 (dk_at dksX10_isSo_1 19 rfl rfl)
theorem dX10_isSo_44 : decode cX10_isSo 44 = .ok (.iload_n 2, 1) := dk_28 (dk_at dksX10_isSo_1 20 rfl rfl)
theorem dX10_isSo_45 : decode cX10_isSo 45 = .ok (.imul, 1) := dk_104 (dk_at dksX10_isSo_1 21 rfl rfl)
theorem dX10_isSo_46 : decode cX10_isSo 46 = .ok (.iconst 1, 1) := dk_4 (dk_at dksX10_isSo_1 22 rfl rfl)
theorem dX10_isSo_47 : decode cX10_isSo 47 = .ok (.iadd, 1) := dk_96 (dk_at dksX10_isSo_1 23 rfl rfl)
theorem dX10_isSo_48 : decode cX10_isSo 48 = .ok (.iaload, 1) := dk_46 (dk_at dksX10_isSo_2 0 rfl rfl)
theorem dX10_isSo_49 : decode cX10_isSo 49 = .ok (.iadd, 1) := dk_96 (dk_at dksX10_isSo_2 1 rfl rfl)
theorem dX10_isSo_50 : decode cX10_isSo 50 = .ok (.iaload, 1) := dk_46 (dk_at dksX10_isSo_2 2 rfl rfl)
theorem dX10_isSo_51 : decode cX10_isSo 51 = .ok (.aload_n 0, 1) := dk_42 (dk_at dksX10_isSo_2 3 rfl rfl)
theorem dX10_isSo_52 : decode cX10_isSo 52 = .ok (.getfield 127, 3) := dk_180 0 127 (dk_at dksX10_isSo_2 4 rfl rfl)
theorem dX10_isSo_55 : decode cX10_isSo 55 = .ok (.iconst 4, 1) := dk_7 (dk_at dksX10_isSo_2 7 rfl rfl)
theorem dX10_isSo_56 : decode cX10_isSo 56 = .ok (.iload_n 2, 1) := dk_28 (dk_at dksX10_isSo_2 8 rfl rfl)
theorem dX10_isSo_57 : decode cX10_isSo 57 = .ok (.imul, 1) := dk_104 (dk_at dksX10_isSo_2 9 rfl rfl)
theorem dX10_isSo_58 : decode cX10_isSo 58 = .ok (.iconst 2, 1) := dk_5 (dk_at dksX10_isSo_2 10 rfl rfl)
theorem dX10_isSo_59 : decode cX10_isSo 59 = .ok (.iadd, 1) := dk_96 (dk_at dksX10_isSo_2 11 rfl rfl)
theorem dX10_isSo_60 : decode cX10_isSo 60 = .ok (.iaload, 1) := dk_46 (dk_at dksX10_isSo_2 12 rfl rfl)
theorem dX10_isSo_61 : decode cX10_isSo 61 = .ok (.invokestatic 264, 3) := dk_184 1 8 (dk_at dksX10_isSo_2 13 rfl rfl)
theorem dX10_isSo_64 : decode cX10_isSo 64 = .ok (.aload_n 0, 1) := dk_42 (dk_at dksX10_isSo_2 16 rfl rfl)
theorem dX10_isSo_65 : decode cX10_isSo 65 = .ok (.getfield 127, 3) := dk_180 0 127 (dk_at dksX10_isSo_2 17 rfl rfl)
theorem dX10_isSo_68 : decode cX10_isSo 68 = .ok (.iconst 4, 1) := dk_7 (dk_at dksX10_isSo_2 20 rfl rfl)
theorem dX10_isSo_69 : decode cX10_isSo 69 = .ok (.iload_n 2, 1) := dk_28 (dk_at dksX10_isSo_2 21 rfl rfl)
theorem dX10_isSo_70 : decode cX10_isSo 70 = .ok (.imul, 1) := dk_104 (dk_at dksX10_isSo_2 22 rfl rfl)
theorem dX10_isSo_71 : decode cX10_isSo 71 = .ok (.iconst 3, 1) := dk_6 (dk_at dksX10_isSo_2 23 rfl rfl)
theorem dX10_isSo_72 : decode cX10_isSo 72 = .ok (.iadd, 1) := dk_96 (dk_at dksX10_isSo_3 0 rfl rfl)
theorem dX10_isSo_73 : decode cX10_isSo 73 = .ok (.iaload, 1) := dk_46 (dk_at dksX10_isSo_3 1 rfl rfl)
theorem dX10_isSo_74 : decode cX10_isSo 74 = .ok (.iconst 1, 1) := dk_4 (dk_at dksX10_isSo_3 2 rfl rfl)
theorem dX10_isSo_75 : decode cX10_isSo 75 = .ok (.if_icmp .ne 7, 3) := dk_160 0 7 (dk_at dksX10_isSo_3 3 rfl rfl)
theorem dX10_isSo_78 : decode cX10_isSo 78 = .ok (.iconst 1, 1) := dk_4 (dk_at dksX10_isSo_3 6 rfl rfl)
theorem dX10_isSo_79 : decode cX10_isSo 79 = .ok (.goto 4, 3) := dk_167 0 4 (dk_at dksX10_isSo_3 7 rfl rfl)
theorem dX10_isSo_82 : decode cX10_isSo 82 = .ok (.iconst 0, 1) := dk_3 (dk_at dksX10_isSo_3 10 rfl rfl)
theorem dX10_isSo_83 : decode cX10_isSo 83 = .ok (.if_icmp .eq 5, 3) := dk_159 0 5 (dk_at dksX10_isSo_3 11 rfl rfl)
theorem dX10_isSo_86 : decode cX10_isSo 86 = .ok (.iconst 0, 1) := dk_3 (dk_at dksX10_isSo_3 14 rfl rfl)
theorem dX10_isSo_87 : decode cX10_isSo 87 = .ok (.ireturn, 1) := dk_172 (dk_at dksX10_isSo_3 15 rfl rfl)
theorem dX10_isSo_88 : decode cX10_isSo 88 = .ok (.iinc 2 1, 3) := dk_132 2 1 (dk_at dksX10_isSo_3 16 rfl rfl)
theorem dX10_isSo_91 : decode cX10_isSo 91 = .ok (.goto (-89), 3) := dk_167 255 167 (dk_at dksX10_isSo_3 19 rfl rfl)
theorem dX10_isSo_94 : decode cX10_isSo 94 = .ok (.iconst 1, 1) := dk_4 (dk_at dksX10_isSo_3 22 rfl rfl)
theorem dX10_isSo_95 : decode cX10_isSo 95 = .ok (.ireturn, 1) := dk_172 (dk_at dksX10_isSo_3 23 rfl rfl)
def dkwX10_chance_5 : List UInt8 := [132, 7, 1, 167, 255, 183, 42, 182, 1, 115, 42, 22, 4, 181, 1, 111, 21, 6, 172]
abbrev dktX10_chance_5 : List UInt8 := dkwX10_chance_5 ++ []
def dkwX10_chance_4 : List UInt8 := [180, 0, 100, 8, 28, 96, 46, 29, 184, 1, 8, 153, 0, 7, 4, 167, 0, 4, 3, 96, 54, 6]
abbrev dktX10_chance_4 : List UInt8 := dkwX10_chance_4 ++ dktX10_chance_5
def dkwX10_chance_3 : List UInt8 := [21, 8, 42, 180, 0, 237, 162, 0, 15, 42, 21, 8, 182, 2, 10, 132, 8, 1, 167, 255, 238, 21, 6, 42]
abbrev dktX10_chance_3 : List UInt8 := dkwX10_chance_3 ++ dktX10_chance_4
def dkwX10_chance_2 : List UInt8 := [21, 7, 16, 10, 162, 0, 72, 42, 182, 1, 214, 42, 4, 181, 1, 127, 42, 4, 181, 1, 130, 3, 54, 8]
abbrev dktX10_chance_2 : List UInt8 := dkwX10_chance_2 ++ dktX10_chance_3
def dkwX10_chance_1 : List UInt8 := [154, 0, 5, 2, 172, 42, 180, 1, 111, 55, 4, 42, 27, 133, 181, 1, 111, 3, 54, 6, 3, 54, 7]
abbrev dktX10_chance_1 : List UInt8 := dkwX10_chance_1 ++ dktX10_chance_2
def dkwX10_chance_0 : List UInt8 := [42, 3, 181, 0, 148, 27, 155, 0, 19, 42, 28, 182, 1, 187, 153, 0, 11, 42, 29, 182, 1, 208]
abbrev dktX10_chance_0 : List UInt8 := dkwX10_chance_0 ++ dktX10_chance_1
theorem dksX10_chance_0 : cX10_chance.data.toList.drop 0 = dktX10_chance_0 := by decide +kernel
theorem dksX10_chance_1 : cX10_chance.data.toList.drop 22 = dktX10_chance_1 := dk_seg dksX10_chance_0 22 rfl rfl
theorem dksX10_chance_2 : cX10_chance.data.toList.drop 45 = dktX10_chance_2 := dk_seg dksX10_chance_1 23 rfl rfl
theorem dksX10_chance_3 : cX10_chance.data.toList.drop 69 = dktX10_chance_3 := dk_seg dksX10_chance_2 24 rfl rfl
theorem dksX10_chance_4 : cX10_chance.data.toList.drop 93 = dktX10_chance_4 := dk_seg dksX10_chance_3 24 rfl rfl
theorem dksX10_chance_5 : cX10_chance.data.toList.drop 115 = dktX10_chance_5 := dk_seg dksX10_chance_4 22 rfl rfl
theorem dX10_chance_0 : decode cX10_chance 0 = .ok (.aload_n 0, 1) := dk_42 (dk_at dksX10_chance_0 0 rfl rfl)
theorem dX10_chance_1 : decode cX10_chance 1 = .ok (.iconst 0, 1) := dk_3 (dk_at dksX10_chance_0 1 rfl rfl)
theorem dX10_chance_2 : decode cX10_chance 2 = .ok (.putfield 148, 3) := dk_181 0 148 (dk_at dksX10_chance_0 2 rfl rfl)
theorem dX10_chance_5 : decode cX10_chance 5 = .ok (.iload_n 1, 1) := dk_27 (dk_at dksX10_chance_0 5 rfl rfl)
theorem dX10_chance_6 : decode cX10_chance 6 = .ok (.ifCond .lt 19, 3) := dk_155 0 19 (dk_at dksX10_chance_0 6 rfl rfl)
theorem dX10_chance_9 : decode cX10_chance 9 = .ok (.aload_n 0, 1) := dk_42 (dk_at dksX10_chance_0 9 rfl rfl)
theorem dX10_chance_10 : decode cX10_chance 10 = .ok (.iload_n 2, 1) := dk_28 (dk_at dksX10_chance_0 10 rfl rfl)
theorem dX10_chance_11 : decode cX10_chance 11 = .ok (.invokevirtual 443, 3) := dk_182 1 187 (dk_at dksX10_chance_0 11 rfl rfl)
theorem dX10_chance_14 : decode cX10_chance 14 = .ok (.ifCond .eq 11, 3) := dk_153 0 11 (dk_at dksX10_chance_0 14 rfl rfl)
theorem dX10_chance_17 : decode cX10_chance 17 = .ok (.aload_n 0, 1) := dk_42 (dk_at dksX10_chance_0 17 rfl rfl)
theorem dX10_chance_18 : decode cX10_chance 18 = .ok (.iload_n 3, 1) := dk_29 (dk_at dksX10_chance_0 18 rfl rfl)
theorem dX10_chance_19 : decode cX10_chance 19 = .ok (.invokevirtual 464, 3) := dk_182 1 208 (dk_at dksX10_chance_0 19 rfl rfl)
theorem dX10_chance_22 : decode cX10_chance 22 = .ok (.ifCond .ne 5, 3) := dk_154 0 5 (dk_at dksX10_chance_1 0 rfl rfl)
theorem dX10_chance_25 : decode cX10_chance 25 = .ok (.iconst (-1), 1) := dk_2 (dk_at dksX10_chance_1 3 rfl rfl)
theorem dX10_chance_26 : decode cX10_chance 26 = .ok (.ireturn, 1) := dk_172 (dk_at dksX10_chance_1 4 rfl rfl)
theorem dX10_chance_27 : decode cX10_chance 27 = .ok (.aload_n 0, 1) := dk_42 (dk_at dksX10_chance_1 5 rfl rfl)
theorem dX10_chance_28 : decode cX10_chance 28 = .ok (.getfield 367, 3) := dk_180 1 111 (dk_at dksX10_chance_1 6 rfl rfl)
theorem dX10_chance_31 : decode cX10_chance 31 = .ok (.lstore 4, 2) := dk_55 4 (dk_at dksX10_chance_1 9 rfl rfl)
theorem dX10_chance_33 : decode cX10_chance 33 = .ok (.aload_n 0, 1) := dk_42 (dk_at dksX10_chance_1 11 rfl rfl)
theorem dX10_chance_34 : decode cX10_chance 34 = .ok (.iload_n 1, 1) := dk_27 (dk_at dksX10_chance_1 12 rfl rfl)
theorem dX10_chance_35 : decode cX10_chance 35 = .ok (.i2l, 1) := dk_133 (dk_at dksX10_chance_1 13 rfl rfl)
theorem dX10_chance_36 : decode cX10_chance 36 = .ok (.putfield 367, 3) := dk_181 1 111 (dk_at dksX10_chance_1 14 rfl rfl)
theorem dX10_chance_39 : decode cX10_chance 39 = .ok (.iconst 0, 1) := dk_3 (dk_at dksX10_chance_1 17 rfl rfl)
theorem dX10_chance_40 : decode cX10_chance 40 = .ok (.istore 6, 2) := dk_54 6 (dk_at dksX10_chance_1 18 rfl rfl)
theorem dX10_chance_42 : decode cX10_chance 42 = .ok (.iconst 0, 1) := dk_3 (dk_at dksX10_chance_1 20 rfl rfl)
theorem dX10_chance_43 : decode cX10_chance 43 = .ok (.istore 7, 2) := dk_54 7 (dk_at dksX10_chance_1 21 rfl rfl)
theorem dX10_chance_45 : decode cX10_chance 45 = .ok (.iload 7, 2) := dk_21 7 (dk_at dksX10_chance_2 0 rfl rfl)
theorem dX10_chance_47 : decode cX10_chance 47 = .ok (.bipush 10, 2) := dk_16 10 (dk_at dksX10_chance_2 2 rfl rfl)
theorem dX10_chance_49 : decode cX10_chance 49 = .ok (.if_icmp .ge 72, 3) := dk_162 0 72 (dk_at dksX10_chance_2 4 rfl rfl)
theorem dX10_chance_52 : decode cX10_chance 52 = .ok (.aload_n 0, 1) := dk_42 (dk_at dksX10_chance_2 7 rfl rfl)
theorem dX10_chance_53 : decode cX10_chance 53 = .ok (.invokevirtual 470, 3) := dk_182 1 214 (dk_at dksX10_chance_2 8 rfl rfl)
theorem dX10_chance_56 : decode cX10_chance 56 = .ok (.aload_n 0, 1) := dk_42 (dk_at dksX10_chance_2 11 rfl rfl)
theorem dX10_chance_57 : decode cX10_chance 57 = .ok (.iconst 1, 1) := dk_4 (dk_at dksX10_chance_2 12 rfl rfl)
theorem dX10_chance_58 : decode cX10_chance 58 = .ok (.putfield 383, 3) := dk_181 1 127 (dk_at dksX10_chance_2 13 rfl rfl)
theorem dX10_chance_61 : decode cX10_chance 61 = .ok (.aload_n 0, 1) := dk_42 (dk_at dksX10_chance_2 16 rfl rfl)
theorem dX10_chance_62 : decode cX10_chance 62 = .ok (.iconst 1, 1) := dk_4 (dk_at dksX10_chance_2 17 rfl rfl)
theorem dX10_chance_63 : decode cX10_chance 63 = .ok (.putfield 386, 3) := dk_181 1 130 (dk_at dksX10_chance_2 18 rfl rfl)
theorem dX10_chance_66 : decode cX10_chance 66 = .ok (.iconst 0, 1) := dk_3 (dk_at dksX10_chance_2 21 rfl rfl)
theorem dX10_chance_67 : decode cX10_chance 67 = .ok (.istore 8, 2) := dk_54 8 (dk_at dksX10_chance_2 22 rfl rfl)
theorem dX10_chance_69 : decode cX10_chance 69 = .ok (.iload 8, 2) := dk_21 8 (dk_at dksX10_chance_3 0 rfl rfl)
theorem dX10_chance_71 : decode cX10_chance 71 = .ok (.aload_n 0, 1) := dk_42 (dk_at dksX10_chance_3 2 rfl rfl)
theorem dX10_chance_72 : decode cX10_chance 72 = .ok (.getfield 237, 3) := dk_180 0 237 (dk_at dksX10_chance_3 3 rfl rfl)
theorem dX10_chance_75 : decode cX10_chance 75 = .ok (.if_icmp .ge 15, 3) := dk_162 0 15 (dk_at dksX10_chance_3 6 rfl rfl)
theorem dX10_chance_78 : decode cX10_chance 78 = .ok (.aload_n 0, 1) := dk_42 (dk_at dksX10_chance_3 9 rfl rfl)
theorem dX10_chance_79 : decode cX10_chance 79 = .ok (.iload 8, 2) := dk_21 8 (dk_at dksX10_chance_3 10 rfl rfl)
theorem dX10_chance_81 : decode cX10_chance 81 = .ok (.invokevirtual 522, 3) := dk_182 2 10 (dk_at dksX10_chance_3 12 rfl rfl)
theorem dX10_chance_84 : decode cX10_chance 84 = .ok (.iinc 8 1, 3) := dk_132 8 1 (dk_at dksX10_chance_3 15 rfl rfl)
theorem dX10_chance_87 : decode cX10_chance 87 = .ok (.goto (-18), 3) := dk_167 255 238 (dk_at dksX10_chance_3 18 rfl rfl)
theorem dX10_chance_90 : decode cX10_chance 90 = .ok (.iload 6, 2) := dk_21 6 (dk_at dksX10_chance_3 21 rfl rfl)
theorem dX10_chance_92 : decode cX10_chance 92 = .ok (.aload_n 0, 1) := dk_42 (dk_at dksX10_chance_3 23 rfl rfl)
theorem dX10_chance_93 : decode cX10_chance 93 = .ok (.getfield 100, 3) := dk_180 0 100 (dk_at dksX10_chance_4 0 rfl rfl)
theorem dX10_chance_96 : decode cX10_chance 96 = .ok (.iconst 5, 1) := dk_8 (dk_at dksX10_chance_4 3 rfl rfl)
theorem dX10_chance_97 : decode cX10_chance 97 = .ok (.iload_n 2, 1) := dk_28 (dk_at dksX10_chance_4 4 rfl rfl)
theorem dX10_chance_98 : decode cX10_chance 98 = .ok (.iadd, 1) := dk_96 (dk_at dksX10_chance_4 5 rfl rfl)
theorem dX10_chance_99 : decode cX10_chance 99 = .ok (.iaload, 1) := dk_46 (dk_at dksX10_chance_4 6 rfl rfl)
theorem dX10_chance_100 : decode cX10_chance 100 = .ok (.iload_n 3, 1) := dk_29 (dk_at dksX10_chance_4 7 rfl rfl)
theorem dX10_chance_101 : decode cX10_chance 101 = .ok (.invokestatic 264, 3) := dk_184 1 8 (dk_at dksX10_chance_4 8 rfl rfl)
theorem dX10_chance_104 : decode cX10_chance 104 = .ok (.ifCond .eq 7, 3) := dk_153 0 7 (dk_at dksX10_chance_4 11 rfl rfl)
theorem dX10_chance_107 : decode cX10_chance 107 = .ok (.iconst 1, 1) := dk_4 (dk_at dksX10_chance_4 14 rfl rfl)
theorem dX10_chance_108 : decode cX10_chance 108 = .ok (.goto 4, 3) := dk_167 0 4 (dk_at dksX10_chance_4 15 rfl rfl)
theorem dX10_chance_111 : decode cX10_chance 111 = .ok (.iconst 0, 1) := dk_3 (dk_at dksX10_chance_4 18 rfl rfl)
theorem dX10_chance_112 : decode cX10_chance 112 = .ok (.iadd, 1) := dk_96 (dk_at dksX10_chance_4 19 rfl rfl)
theorem dX10_chance_113 : decode cX10_chance 113 = .ok (.istore 6, 2) := dk_54 6 (dk_at dksX10_chance_4 20 rfl rfl)
theorem dX10_chance_115 : decode cX10_chance 115 = .ok (.iinc 7 1, 3) := dk_132 7 1 (dk_at dksX10_chance_5 0 rfl rfl)
theorem dX10_chance_118 : decode cX10_chance 118 = .ok (.goto (-73), 3) := dk_167 255 183 (dk_at dksX10_chance_5 3 rfl rfl)
theorem dX10_chance_121 : decode cX10_chance 121 = .ok (.aload_n 0, 1) := dk_42 (dk_at dksX10_chance_5 6 rfl rfl)
theorem dX10_chance_122 : decode cX10_chance 122 = .ok (.invokevirtual 371, 3) := dk_182 1 115 (dk_at dksX10_chance_5 7 rfl rfl)
theorem dX10_chance_125 : decode cX10_chance 125 = .ok (.aload_n 0, 1) := dk_42 (dk_at dksX10_chance_5 10 rfl rfl)
theorem dX10_chance_126 : decode cX10_chance 126 = .ok (.lload 4, 2) := dk_22 4 (dk_at dksX10_chance_5 11 rfl rfl)
theorem dX10_chance_128 : decode cX10_chance 128 = .ok (.putfield 367, 3) := dk_181 1 111 (dk_at dksX10_chance_5 13 rfl rfl)
theorem dX10_chance_131 : decode cX10_chance 131 = .ok (.iload 6, 2) := dk_21 6 (dk_at dksX10_chance_5 16 rfl rfl)
theorem dX10_chance_133 : decode cX10_chance 133 = .ok (.ireturn, 1) := dk_172 (dk_at dksX10_chance_5 18 rfl rfl)
def dkwX10_tried_6 : List UInt8 := [182, 1, 217, 42, 4, 182, 1, 211, 62, 42, 182, 1, 115, 29, 172]
abbrev dktX10_tried_6 : List UInt8 := dkwX10_tried_6 ++ []
def dkwX10_tried_5 : List UInt8 := [162, 0, 23, 27, 4, 160, 0, 18, 42, 180, 0, 106, 8, 29, 96, 3, 79, 132, 3, 1, 167, 255, 234, 42]
abbrev dktX10_tried_5 : List UInt8 := dkwX10_tried_5 ++ dktX10_tried_6
def dkwX10_tried_4 : List UInt8 := [2, 181, 1, 142, 42, 27, 7, 160, 0, 7, 4, 167, 0, 4, 3, 181, 1, 136, 3, 62, 29, 8]
abbrev dktX10_tried_4 : List UInt8 := dkwX10_tried_4 ++ dktX10_tried_5
def dkwX10_tried_3 : List UInt8 := [5, 160, 0, 9, 4, 28, 120, 167, 0, 4, 3, 181, 1, 139, 42, 27, 6, 160, 0, 7, 28, 167, 0, 4]
abbrev dktX10_tried_3 : List UInt8 := dkwX10_tried_3 ++ dktX10_tried_4
def dkwX10_tried_2 : List UInt8 := [153, 0, 5, 2, 172, 42, 182, 1, 214, 42, 27, 154, 0, 7, 4, 167, 0, 4, 3, 181, 1, 133, 42, 27]
abbrev dktX10_tried_2 : List UInt8 := dkwX10_tried_2 ++ dktX10_tried_3
def dkwX10_tried_1 : List UInt8 := [154, 0, 28, 167, 0, 23, 27, 6, 160, 0, 14, 42, 28, 182, 1, 193, 154, 0, 12, 167, 0, 7, 28]
abbrev dktX10_tried_1 : List UInt8 := dkwX10_tried_1 ++ dktX10_tried_2
def dkwX10_tried_0 : List UInt8 := [42, 3, 181, 0, 148, 27, 3, 7, 184, 0, 193, 153, 0, 39, 27, 5, 160, 0, 14, 42, 28, 182, 1, 187]
abbrev dktX10_tried_0 : List UInt8 := dkwX10_tried_0 ++ dktX10_tried_1
theorem dksX10_tried_0 : cX10_tried.data.toList.drop 0 = dktX10_tried_0 := by decide +kernel
theorem dksX10_tried_1 : cX10_tried.data.toList.drop 24 = dktX10_tried_1 := dk_seg dksX10_tried_0 24 rfl rfl
theorem dksX10_tried_2 : cX10_tried.data.toList.drop 47 = dktX10_tried_2 := dk_seg dksX10_tried_1 23 rfl rfl
theorem dksX10_tried_3 : cX10_tried.data.toList.drop 71 = dktX10_tried_3 := dk_seg dksX10_tried_2 24 rfl rfl
theorem dksX10_tried_4 : cX10_tried.data.toList.drop 95 = dktX10_tried_4 := dk_seg dksX10_tried_3 24 rfl rfl
theorem dksX10_tried_5 : cX10_tried.data.toList.drop 117 = dktX10_tried_5 := dk_seg dksX10_tried_4 22 rfl rfl
theorem dksX10_tried_6 : cX10_tried.data.toList.drop 141 = dktX10_tried_6 := dk_seg dksX10_tried_5 24 rfl rfl
theorem dX10_tried_0 : decode cX10_tried 0 = .ok (.aload_n 0, 1) := dk_42 (dk_at dksX10_tried_0 0 rfl rfl)
theorem dX10_tried_1 : decode cX10_tried 1 = .ok (.iconst 0, 1) := dk_3 (dk_at dksX10_tried_0 1 rfl rfl)
theorem dX10_tried_2 : decode cX10_tried 2 = .ok (.putfield 148, 3) := dk_181 0 148 (dk_at dksX10_tried_0 2 rfl rfl)
theorem dX10_tried_5 : decode cX10_tried 5 = .ok (.iload_n 1, 1) := dk_27 (dk_at dksX10_tried_0 5 rfl rfl)
theorem dX10_tried_6 : decode cX10_tried 6 = .ok (.iconst 0, 1) := dk_3 (dk_at dksX10_tried_0 6 rfl rfl)
theorem dX10_tried_7 : decode cX10_tried 7 = .ok (.iconst 4, 1) := dk_7 (dk_at dksX10_tried_0 7 rfl rfl)
theorem dX10_tried_8 : decode cX10_tried 8 = .ok (.invokestatic 193, 3) := dk_184 0 193 (dk_at dksX10_tried_0 8 rfl rfl)
theorem dX10_tried_11 : decode cX10_tried 11 = .ok (.ifCond .eq 39, 3) := dk_153 0 39 (dk_at dksX10_tried_0 11 rfl rfl)
theorem dX10_tried_14 : decode cX10_tried 14 = .ok (.iload_n 1, 1) := dk_27 (dk_at dksX10_tried_0 14 rfl rfl)
theorem dX10_tried_15 : decode cX10_tried 15 = .ok (.iconst 2, 1) := dk_5 (dk_at dksX10_tried_0 15 rfl rfl)
theorem dX10_tried_16 : decode cX10_tried 16 = .ok (.if_icmp .ne 14, 3) := dk_160 0 14 (dk_at dksX10_tried_0 16 rfl rfl)
theorem dX10_tried_19 : decode cX10_tried 19 = .ok (.aload_n 0, 1) := dk_42 (dk_at dksX10_tried_0 19 rfl rfl)
theorem dX10_tried_20 : decode cX10_tried 20 = .ok (.iload_n 2, 1) := dk_28 (dk_at dksX10_tried_0 20 rfl rfl)
theorem dX10_tried_21 : decode cX10_tried 21 = .ok (.invokevirtual 443, 3) := dk_182 1 187 (dk_at dksX10_tried_0 21 rfl rfl)
theorem dX10_tried_24 : decode cX10_tried 24 = .ok (.ifCond .ne 28, 3) := dk_154 0 28 (dk_at dksX10_tried_1 0 rfl rfl)
theorem dX10_tried_27 : decode cX10_tried 27 = .ok (.goto 23, 3) := dk_167 0 23 (dk_at dksX10_tried_1 3 rfl rfl)
theorem dX10_tried_30 : decode cX10_tried 30 = .ok (.iload_n 1, 1) := dk_27 (dk_at dksX10_tried_1 6 rfl rfl)
theorem dX10_tried_31 : decode cX10_tried 31 = .ok (.iconst 3, 1) := dk_6 (dk_at dksX10_tried_1 7 rfl rfl)
theorem dX10_tried_32 : decode cX10_tried 32 = .ok (.if_icmp .ne 14, 3) := dk_160 0 14 (dk_at dksX10_tried_1 8 rfl rfl)
theorem dX10_tried_35 : decode cX10_tried 35 = .ok (.aload_n 0, 1) := dk_42 (dk_at dksX10_tried_1 11 rfl rfl)
theorem dX10_tried_36 : decode cX10_tried 36 = .ok (.iload_n 2, 1) := dk_28 (dk_at dksX10_tried_1 12 rfl rfl)
theorem dX10_tried_37 : decode cX10_tried 37 = .ok (.invokevirtual 449, 3) := dk_182 1 193 (dk_at dksX10_tried_1 13 rfl rfl)
theorem dX10_tried_40 : decode cX10_tried 40 = .ok (.ifCond .ne 12, 3) := dk_154 0 12 (dk_at dksX10_tried_1 16 rfl rfl)
theorem dX10_tried_43 : decode cX10_tried 43 = .ok (.goto 7, 3) := dk_167 0 7 (dk_at dksX10_tried_1 19 rfl rfl)
theorem dX10_tried_46 : decode cX10_tried 46 = .ok (.iload_n 2, 1) := dk_28 (dk_at dksX10_tried_1 22 rfl rfl)
theorem dX10_tried_47 : decode cX10_tried 47 = .ok (.ifCond .eq 5, 3) := dk_153 0 5 (dk_at dksX10_tried_2 0 rfl rfl)
theorem dX10_tried_50 : decode cX10_tried 50 = .ok (.iconst (-1), 1) := dk_2 (dk_at dksX10_tried_2 3 rfl rfl)
theorem dX10_tried_51 : decode cX10_tried 51 = .ok (.ireturn, 1) := dk_172 (dk_at dksX10_tried_2 4 rfl rfl)
theorem dX10_tried_52 : decode cX10_tried 52 = .ok (.aload_n 0, 1) := dk_42 (dk_at dksX10_tried_2 5 rfl rfl)
theorem dX10_tried_53 : decode cX10_tried 53 = .ok (.invokevirtual 470, 3) := dk_182 1 214 (dk_at dksX10_tried_2 6 rfl rfl)
theorem dX10_tried_56 : decode cX10_tried 56 = .ok (.aload_n 0, 1) := dk_42 (dk_at dksX10_tried_2 9 rfl rfl)
theorem dX10_tried_57 : decode cX10_tried 57 = .ok (.iload_n 1, 1) := dk_27 (dk_at dksX10_tried_2 10 rfl rfl)
theorem dX10_tried_58 : decode cX10_tried 58 = .ok (.ifCond .ne 7, 3) := dk_154 0 7 (dk_at dksX10_tried_2 11 rfl rfl)
theorem dX10_tried_61 : decode cX10_tried 61 = .ok (.iconst 1, 1) := dk_4 (dk_at dksX10_tried_2 14 rfl rfl)
theorem dX10_tried_62 : decode cX10_tried 62 = .ok (.goto 4, 3) := dk_167 0 4 (dk_at dksX10_tried_2 15 rfl rfl)
theorem dX10_tried_65 : decode cX10_tried 65 = .ok (.iconst 0, 1) := dk_3 (dk_at dksX10_tried_2 18 rfl rfl)
theorem dX10_tried_66 : decode cX10_tried 66 = .ok (.putfield 389, 3) := dk_181 1 133 (dk_at dksX10_tried_2 19 rfl rfl)
theorem dX10_tried_69 : decode cX10_tried 69 = .ok (.aload_n 0, 1) := dk_42 (dk_at dksX10_tried_2 22 rfl rfl)
theorem dX10_tried_70 : decode cX10_tried 70 = .ok (.iload_n 1, 1) := dk_27 (dk_at dksX10_tried_2 23 rfl rfl)
theorem dX10_tried_71 : decode cX10_tried 71 = .ok (.iconst 2, 1) := dk_5 (dk_at dksX10_tried_3 0 rfl rfl)
theorem dX10_tried_72 : decode cX10_tried 72 = .ok (.if_icmp .ne 9, 3) := dk_160 0 9 (dk_at dksX10_tried_3 1 rfl rfl)
theorem dX10_tried_75 : decode cX10_tried 75 = .ok (.iconst 1, 1) := dk_4 (dk_at dksX10_tried_3 4 rfl rfl)
theorem dX10_tried_76 : decode cX10_tried 76 = .ok (.iload_n 2, 1) := dk_28 (dk_at dksX10_tried_3 5 rfl rfl)
theorem dX10_tried_77 : decode cX10_tried 77 = .ok (.ishl, 1) := dk_120 (dk_at dksX10_tried_3 6 rfl rfl)
theorem dX10_tried_78 : decode cX10_tried 78 = .ok (.goto 4, 3) := dk_167 0 4 (dk_at dksX10_tried_3 7 rfl rfl)
theorem dX10_tried_81 : decode cX10_tried 81 = .ok (.iconst 0, 1) := dk_3 (dk_at dksX10_tried_3 10 rfl rfl)
theorem dX10_tried_82 : decode cX10_tried 82 = .ok (.putfield 395, 3) := dk_181 1 139 (dk_at dksX10_tried_3 11 rfl rfl)
theorem dX10_tried_85 : decode cX10_tried 85 = .ok (.aload_n 0, 1) := dk_42 (dk_at dksX10_tried_3 14 rfl rfl)
theorem dX10_tried_86 : decode cX10_tried 86 = .ok (.iload_n 1, 1) := dk_27 (dk_at dksX10_tried_3 15 rfl rfl)
theorem dX10_tried_87 : decode cX10_tried 87 = .ok (.iconst 3, 1) := dk_6 (dk_at dksX10_tried_3 16 rfl rfl)
theorem dX10_tried_88 : decode cX10_tried 88 = .ok (.if_icmp .ne 7, 3) := dk_160 0 7 (dk_at dksX10_tried_3 17 rfl rfl)
theorem dX10_tried_91 : decode cX10_tried 91 = .ok (.iload_n 2, 1) := dk_28 (dk_at dksX10_tried_3 20 rfl rfl)
theorem dX10_tried_92 : decode cX10_tried 92 = .ok (.goto 4, 3) := dk_167 0 4 (dk_at dksX10_tried_3 21 rfl rfl)
theorem dX10_tried_95 : decode cX10_tried 95 = .ok (.iconst (-1), 1) := dk_2 (dk_at dksX10_tried_4 0 rfl rfl)
theorem dX10_tried_96 : decode cX10_tried 96 = .ok (.putfield 398, 3) := dk_181 1 142 (dk_at dksX10_tried_4 1 rfl rfl)
theorem dX10_tried_99 : decode cX10_tried 99 = .ok (.aload_n 0, 1) := dk_42 (dk_at dksX10_tried_4 4 rfl rfl)
theorem dX10_tried_100 : decode cX10_tried 100 = .ok (.iload_n 1, 1) := dk_27 (dk_at dksX10_tried_4 5 rfl rfl)
theorem dX10_tried_101 : decode cX10_tried 101 = .ok (.iconst 4, 1) := dk_7 (dk_at dksX10_tried_4 6 rfl rfl)
theorem dX10_tried_102 : decode cX10_tried 102 = .ok (.if_icmp .ne 7, 3) := dk_160 0 7 (dk_at dksX10_tried_4 7 rfl rfl)
theorem dX10_tried_105 : decode cX10_tried 105 = .ok (.iconst 1, 1) := dk_4 (dk_at dksX10_tried_4 10 rfl rfl)
theorem dX10_tried_106 : decode cX10_tried 106 = .ok (.goto 4, 3) := dk_167 0 4 (dk_at dksX10_tried_4 11 rfl rfl)
theorem dX10_tried_109 : decode cX10_tried 109 = .ok (.iconst 0, 1) := dk_3 (dk_at dksX10_tried_4 14 rfl rfl)
theorem dX10_tried_110 : decode cX10_tried 110 = .ok (.putfield 392, 3) := dk_181 1 136 (dk_at dksX10_tried_4 15 rfl rfl)
theorem dX10_tried_113 : decode cX10_tried 113 = .ok (.iconst 0, 1) := dk_3 (dk_at dksX10_tried_4 18 rfl rfl)
theorem dX10_tried_114 : decode cX10_tried 114 = .ok (.istore_n 3, 1) := dk_62 (dk_at dksX10_tried_4 19 rfl rfl)
theorem dX10_tried_115 : decode cX10_tried 115 = .ok (.iload_n 3, 1) := dk_29 (dk_at dksX10_tried_4 20 rfl rfl)
theorem dX10_tried_116 : decode cX10_tried 116 = .ok (.iconst 5, 1) := dk_8 (dk_at dksX10_tried_4 21 rfl rfl)
theorem dX10_tried_117 : decode cX10_tried 117 = .ok (.if_icmp .ge 23, 3) := dk_162 0 23 (dk_at dksX10_tried_5 0 rfl rfl)
theorem dX10_tried_120 : decode cX10_tried 120 = .ok (.iload_n 1, 1) := dk_27 (dk_at dksX10_tried_5 3 rfl rfl)
theorem dX10_tried_121 : decode cX10_tried 121 = .ok (.iconst 1, 1) := dk_4 (dk_at dksX10_tried_5 4 rfl rfl)
theorem dX10_tried_122 : decode cX10_tried 122 = .ok (.if_icmp .ne 18, 3) := dk_160 0 18 (dk_at dksX10_tried_5 5 rfl rfl)
theorem dX10_tried_125 : decode cX10_tried 125 = .ok (.aload_n 0, 1) := dk_42 (dk_at dksX10_tried_5 8 rfl rfl)
theorem dX10_tried_126 : decode cX10_tried 126 = .ok (.getfield 106, 3) := dk_180 0 106 (dk_at dksX10_tried_5 9 rfl rfl)
theorem dX10_tried_129 : decode cX10_tried 129 = .ok (.iconst 5, 1) := dk_8 (dk_at dksX10_tried_5 12 rfl rfl)
theorem dX10_tried_130 : decode cX10_tried 130 = .ok (.iload_n 3, 1) := dk_29 (dk_at dksX10_tried_5 13 rfl rfl)
theorem dX10_tried_131 : decode cX10_tried 131 = .ok (.iadd, 1) := dk_96 (dk_at dksX10_tried_5 14 rfl rfl)
theorem dX10_tried_132 : decode cX10_tried 132 = .ok (.iconst 0, 1) := dk_3 (dk_at dksX10_tried_5 15 rfl rfl)
theorem dX10_tried_133 : decode cX10_tried 133 = .ok (.iastore, 1) := dk_79 (dk_at dksX10_tried_5 16 rfl rfl)
theorem dX10_tried_134 : decode cX10_tried 134 = .ok (.iinc 3 1, 3) := dk_132 3 1 (dk_at dksX10_tried_5 17 rfl rfl)
theorem dX10_tried_137 : decode cX10_tried 137 = .ok (.goto (-22), 3) := dk_167 255 234 (dk_at dksX10_tried_5 20 rfl rfl)
theorem dX10_tried_140 : decode cX10_tried 140 = .ok (.aload_n 0, 1) := dk_42 (dk_at dksX10_tried_5 23 rfl rfl)
theorem dX10_tried_141 : decode cX10_tried 141 = .ok (.invokevirtual 473, 3) := dk_182 1 217 (dk_at dksX10_tried_6 0 rfl rfl)
theorem dX10_tried_144 : decode cX10_tried 144 = .ok (.aload_n 0, 1) := dk_42 (dk_at dksX10_tried_6 3 rfl rfl)
theorem dX10_tried_145 : decode cX10_tried 145 = .ok (.iconst 1, 1) := dk_4 (dk_at dksX10_tried_6 4 rfl rfl)
theorem dX10_tried_146 : decode cX10_tried 146 = .ok (.invokevirtual 467, 3) := dk_182 1 211 (dk_at dksX10_tried_6 5 rfl rfl)
theorem dX10_tried_149 : decode cX10_tried 149 = .ok (.istore_n 3, 1) := dk_62 (dk_at dksX10_tried_6 8 rfl rfl)
theorem dX10_tried_150 : decode cX10_tried 150 = .ok (.aload_n 0, 1) := dk_42 (dk_at dksX10_tried_6 9 rfl rfl)
theorem dX10_tried_151 : decode cX10_tried 151 = .ok (.invokevirtual 371, 3) := dk_182 1 115 (dk_at dksX10_tried_6 10 rfl rfl)
theorem dX10_tried_154 : decode cX10_tried 154 = .ok (.iload_n 3, 1) := dk_29 (dk_at dksX10_tried_6 13 rfl rfl)
theorem dX10_tried_155 : decode cX10_tried 155 = .ok (.ireturn, 1) := dk_172 (dk_at dksX10_tried_6 14 rfl rfl)
def dkwX10_undo_2 : List UInt8 := [47, 181, 1, 111, 42, 180, 1, 121, 172]
abbrev dktX10_undo_2 : List UInt8 := dkwX10_undo_2 ++ []
def dkwX10_undo_1 : List UInt8 := [42, 42, 180, 0, 133, 16, 22, 42, 180, 1, 121, 104, 182, 2, 28, 42, 42, 180, 0, 136, 42, 180, 1, 121]
abbrev dktX10_undo_1 : List UInt8 := dkwX10_undo_1 ++ dktX10_undo_2
def dkwX10_undo_0 : List UInt8 := [42, 3, 181, 0, 148, 42, 180, 1, 121, 154, 0, 5, 2, 172, 42, 89, 180, 1, 121, 4, 100, 181, 1, 121]
abbrev dktX10_undo_0 : List UInt8 := dkwX10_undo_0 ++ dktX10_undo_1
theorem dksX10_undo_0 : cX10_undo.data.toList.drop 0 = dktX10_undo_0 := by decide +kernel
theorem dksX10_undo_1 : cX10_undo.data.toList.drop 24 = dktX10_undo_1 := dk_seg dksX10_undo_0 24 rfl rfl
theorem dksX10_undo_2 : cX10_undo.data.toList.drop 48 = dktX10_undo_2 := dk_seg dksX10_undo_1 24 rfl rfl
theorem dX10_undo_0 : decode cX10_undo 0 = .ok (.aload_n 0, 1) := dk_42 (dk_at dksX10_undo_0 0 rfl rfl)
theorem dX10_undo_1 : decode cX10_undo 1 = .ok (.iconst 0, 1) := dk_3 (dk_at dksX10_undo_0 1 rfl rfl)
theorem dX10_undo_2 : decode cX10_undo 2 = .ok (.putfield 148, 3) := dk_181 0 148 (dk_at dksX10_undo_0 2 rfl rfl)
theorem dX10_undo_5 : decode cX10_undo 5 = .ok (.aload_n 0, 1) := dk_42 (dk_at dksX10_undo_0 5 rfl rfl)
theorem dX10_undo_6 : decode cX10_undo 6 = .ok (.getfield 377, 3) := dk_180 1 121 (dk_at dksX10_undo_0 6 rfl rfl)
theorem dX10_undo_9 : decode cX10_undo 9 = .ok (.ifCond .ne 5, 3) := dk_154 0 5 (dk_at dksX10_undo_0 9 rfl rfl)
theorem dX10_undo_12 : decode cX10_undo 12 = .ok (.iconst (-1), 1) := dk_2 (dk_at dksX10_undo_0 12 rfl rfl)
theorem dX10_undo_13 : decode cX10_undo 13 = .ok (.ireturn, 1) := dk_172 (dk_at dksX10_undo_0 13 rfl rfl)
theorem dX10_undo_14 : decode cX10_undo 14 = .ok (.aload_n 0, 1) := dk_42 (dk_at dksX10_undo_0 14 rfl rfl)
theorem dX10_undo_15 : decode cX10_undo 15 = .ok (.dup, 1) := dk_89 (dk_at dksX10_undo_0 15 rfl rfl)
theorem dX10_undo_16 : decode cX10_undo 16 = .ok (.getfield 377, 3) := dk_180 1 121 (dk_at dksX10_undo_0 16 rfl rfl)
theorem dX10_undo_19 : decode cX10_undo 19 = .ok (.iconst 1, 1) := dk_4 (dk_at dksX10_undo_0 19 rfl rfl)
theorem dX10_undo_20 : decode cX10_undo 20 = .ok (.isub, 1) := dk_100 (dk_at dksX10_undo_0 20 rfl rfl)
theorem dX10_undo_21 : decode cX10_undo 21 = .ok (.putfield 377, 3) := dk_181 1 121 (dk_at dksX10_undo_0 21 rfl rfl)
theorem dX10_undo_24 : decode cX10_undo 24 = .ok (.aload_n 0, 1) := dk_42 (dk_at dksX10_undo_1 0 rfl rfl)
theorem dX10_undo_25 : decode cX10_undo 25 = .ok (.aload_n 0, 1) := dk_42 (dk_at dksX10_undo_1 1 rfl rfl)
theorem dX10_undo_26 : decode cX10_undo 26 = .ok (.getfield 133, 3) := dk_180 0 133 (dk_at dksX10_undo_1 2 rfl rfl)
theorem dX10_undo_29 : decode cX10_undo 29 = .ok (.bipush 22, 2) := dk_16 22 (dk_at dksX10_undo_1 5 rfl rfl)
theorem dX10_undo_31 : decode cX10_undo 31 = .ok (.aload_n 0, 1) := dk_42 (dk_at dksX10_undo_1 7 rfl rfl)
theorem dX10_undo_32 : decode cX10_undo 32 = .ok (.getfield 377, 3) := dk_180 1 121 (dk_at dksX10_undo_1 8 rfl rfl)
theorem dX10_undo_35 : decode cX10_undo 35 = .ok (.imul, 1) := dk_104 (dk_at dksX10_undo_1 11 rfl rfl)
theorem dX10_undo_36 : decode cX10_undo 36 = .ok (.invokevirtual 540, 3) := dk_182 2 28 (dk_at dksX10_undo_1 12 rfl rfl)
theorem dX10_undo_39 : decode cX10_undo 39 = .ok (.aload_n 0, 1) := dk_42 (dk_at dksX10_undo_1 15 rfl rfl)
theorem dX10_undo_40 : decode cX10_undo 40 = .ok (.aload_n 0, 1) := dk_42 (dk_at dksX10_undo_1 16 rfl rfl)
theorem dX10_undo_41 : decode cX10_undo 41 = .ok (.getfield 136, 3) := dk_180 0 136 (dk_at dksX10_undo_1 17 rfl rfl)
theorem dX10_undo_44 : decode cX10_undo 44 = .ok (.aload_n 0, 1) := dk_42 (dk_at dksX10_undo_1 20 rfl rfl)
theorem dX10_undo_45 : decode cX10_undo 45 = .ok (.getfield 377, 3) := dk_180 1 121 (dk_at dksX10_undo_1 21 rfl rfl)
theorem dX10_undo_48 : decode cX10_undo 48 = .ok (.laload, 1) := dk_47 (dk_at dksX10_undo_2 0 rfl rfl)
theorem dX10_undo_49 : decode cX10_undo 49 = .ok (.putfield 367, 3) := dk_181 1 111 (dk_at dksX10_undo_2 1 rfl rfl)
theorem dX10_undo_52 : decode cX10_undo 52 = .ok (.aload_n 0, 1) := dk_42 (dk_at dksX10_undo_2 4 rfl rfl)
theorem dX10_undo_53 : decode cX10_undo 53 = .ok (.getfield 377, 3) := dk_180 1 121 (dk_at dksX10_undo_2 5 rfl rfl)
theorem dX10_undo_56 : decode cX10_undo 56 = .ok (.ireturn, 1) := dk_172 (dk_at dksX10_undo_2 8 rfl rfl)
def dkwX10_take_3 : List UInt8 := [43, 28, 16, 20, 96, 46, 79, 42, 43, 28, 16, 21, 96, 46, 181, 1, 108, 177]
abbrev dktX10_take_3 : List UInt8 := dkwX10_take_3 ++ []
def dkwX10_take_2 : List UInt8 := [180, 0, 109, 29, 43, 28, 16, 15, 96, 29, 96, 46, 79, 132, 3, 1, 167, 255, 196, 42, 180, 0, 112, 3]
abbrev dktX10_take_2 : List UInt8 := dkwX10_take_2 ++ dktX10_take_3
def dkwX10_take_1 : List UInt8 := [28, 8, 96, 29, 96, 46, 79, 42, 180, 0, 106, 29, 43, 28, 16, 10, 96, 29, 96, 46, 79, 42]
abbrev dktX10_take_1 : List UInt8 := dkwX10_take_1 ++ dktX10_take_2
def dkwX10_take_0 : List UInt8 := [3, 62, 29, 8, 162, 0, 61, 42, 180, 0, 100, 29, 43, 28, 29, 96, 46, 79, 42, 180, 0, 103, 29, 43]
abbrev dktX10_take_0 : List UInt8 := dkwX10_take_0 ++ dktX10_take_1
theorem dksX10_take_0 : cX10_take.data.toList.drop 0 = dktX10_take_0 := by decide +kernel
theorem dksX10_take_1 : cX10_take.data.toList.drop 24 = dktX10_take_1 := dk_seg dksX10_take_0 24 rfl rfl
theorem dksX10_take_2 : cX10_take.data.toList.drop 46 = dktX10_take_2 := dk_seg dksX10_take_1 22 rfl rfl
theorem dksX10_take_3 : cX10_take.data.toList.drop 70 = dktX10_take_3 := dk_seg dksX10_take_2 24 rfl rfl
theorem dX10_take_0 : decode cX10_take 0 = .ok (.iconst 0, 1) := dk_3 (dk_at dksX10_take_0 0 rfl rfl)
theorem dX10_take_1 : decode cX10_take 1 = .ok (.istore_n 3, 1) := dk_62 (dk_at dksX10_take_0 1 rfl rfl)
theorem dX10_take_2 : decode cX10_take 2 = .ok (.iload_n 3, 1) := dk_29 (dk_at dksX10_take_0 2 rfl rfl)
theorem dX10_take_3 : decode cX10_take 3 = .ok (.iconst 5, 1) := dk_8 (dk_at dksX10_take_0 3 rfl rfl)
theorem dX10_take_4 : decode cX10_take 4 = .ok (.if_icmp .ge 61, 3) := dk_162 0 61 (dk_at dksX10_take_0 4 rfl rfl)
theorem dX10_take_7 : decode cX10_take 7 = .ok (.aload_n 0, 1) := dk_42 (dk_at dksX10_take_0 7 rfl rfl)
theorem dX10_take_8 : decode cX10_take 8 = .ok (.getfield 100, 3) := dk_180 0 100 (dk_at dksX10_take_0 8 rfl rfl)
theorem dX10_take_11 : decode cX10_take 11 = .ok (.iload_n 3, 1) := dk_29 (dk_at dksX10_take_0 11 rfl rfl)
theorem dX10_take_12 : decode cX10_take 12 = .ok (.aload_n 1, 1) := dk_43 (dk_at dksX10_take_0 12 rfl rfl)
theorem dX10_take_13 : decode cX10_take 13 = .ok (.iload_n 2, 1) := dk_28 (dk_at dksX10_take_0 13 rfl rfl)
theorem dX10_take_14 : decode cX10_take 14 = .ok (.iload_n 3, 1) := dk_29 (dk_at dksX10_take_0 14 rfl rfl)
theorem dX10_take_15 : decode cX10_take 15 = .ok (.iadd, 1) := dk_96 (dk_at dksX10_take_0 15 rfl rfl)
theorem dX10_take_16 : decode cX10_take 16 = .ok (.iaload, 1) := dk_46 (dk_at dksX10_take_0 16 rfl rfl)
theorem dX10_take_17 : decode cX10_take 17 = .ok (.iastore, 1) := dk_79 (dk_at dksX10_take_0 17 rfl rfl)
theorem dX10_take_18 : decode cX10_take 18 = .ok (.aload_n 0, 1) := dk_42 (dk_at dksX10_take_0 18 rfl rfl)
theorem dX10_take_19 : decode cX10_take 19 = .ok (.getfield 103, 3) := dk_180 0 103 (dk_at dksX10_take_0 19 rfl rfl)
theorem dX10_take_22 : decode cX10_take 22 = .ok (.iload_n 3, 1) := dk_29 (dk_at dksX10_take_0 22 rfl rfl)
theorem dX10_take_23 : decode cX10_take 23 = .ok (.aload_n 1, 1) := dk_43 (dk_at dksX10_take_0 23 rfl rfl)
theorem dX10_take_24 : decode cX10_take 24 = .ok (.iload_n 2, 1) := dk_28 (dk_at dksX10_take_1 0 rfl rfl)
theorem dX10_take_25 : decode cX10_take 25 = .ok (.iconst 5, 1) := dk_8 (dk_at dksX10_take_1 1 rfl rfl)
theorem dX10_take_26 : decode cX10_take 26 = .ok (.iadd, 1) := dk_96 (dk_at dksX10_take_1 2 rfl rfl)
theorem dX10_take_27 : decode cX10_take 27 = .ok (.iload_n 3, 1) := dk_29 (dk_at dksX10_take_1 3 rfl rfl)
theorem dX10_take_28 : decode cX10_take 28 = .ok (.iadd, 1) := dk_96 (dk_at dksX10_take_1 4 rfl rfl)
theorem dX10_take_29 : decode cX10_take 29 = .ok (.iaload, 1) := dk_46 (dk_at dksX10_take_1 5 rfl rfl)
theorem dX10_take_30 : decode cX10_take 30 = .ok (.iastore, 1) := dk_79 (dk_at dksX10_take_1 6 rfl rfl)
theorem dX10_take_31 : decode cX10_take 31 = .ok (.aload_n 0, 1) := dk_42 (dk_at dksX10_take_1 7 rfl rfl)
theorem dX10_take_32 : decode cX10_take 32 = .ok (.getfield 106, 3) := dk_180 0 106 (dk_at dksX10_take_1 8 rfl rfl)
theorem dX10_take_35 : decode cX10_take 35 = .ok (.iload_n 3, 1) := dk_29 (dk_at dksX10_take_1 11 rfl rfl)
theorem dX10_take_36 : decode cX10_take 36 = .ok (.aload_n 1, 1) := dk_43 (dk_at dksX10_take_1 12 rfl rfl)
theorem dX10_take_37 : decode cX10_take 37 = .ok (.iload_n 2, 1) := dk_28 (dk_at dksX10_take_1 13 rfl rfl)
theorem dX10_take_38 : decode cX10_take 38 = .ok (.bipush 10, 2) := dk_16 10 (dk_at dksX10_take_1 14 rfl rfl)
theorem dX10_take_40 : decode cX10_take 40 = .ok (.iadd, 1) := dk_96 (dk_at dksX10_take_1 16 rfl rfl)
theorem dX10_take_41 : decode cX10_take 41 = .ok (.iload_n 3, 1) := dk_29 (dk_at dksX10_take_1 17 rfl rfl)
theorem dX10_take_42 : decode cX10_take 42 = .ok (.iadd, 1) := dk_96 (dk_at dksX10_take_1 18 rfl rfl)
theorem dX10_take_43 : decode cX10_take 43 = .ok (.iaload, 1) := dk_46 (dk_at dksX10_take_1 19 rfl rfl)
theorem dX10_take_44 : decode cX10_take 44 = .ok (.iastore, 1) := dk_79 (dk_at dksX10_take_1 20 rfl rfl)
theorem dX10_take_45 : decode cX10_take 45 = .ok (.aload_n 0, 1) := dk_42 (dk_at dksX10_take_1 21 rfl rfl)
theorem dX10_take_46 : decode cX10_take 46 = .ok (.getfield 109, 3) := dk_180 0 109 (dk_at dksX10_take_2 0 rfl rfl)
theorem dX10_take_49 : decode cX10_take 49 = .ok (.iload_n 3, 1) := dk_29 (dk_at dksX10_take_2 3 rfl rfl)
theorem dX10_take_50 : decode cX10_take 50 = .ok (.aload_n 1, 1) := dk_43 (dk_at dksX10_take_2 4 rfl rfl)
theorem dX10_take_51 : decode cX10_take 51 = .ok (.iload_n 2, 1) := dk_28 (dk_at dksX10_take_2 5 rfl rfl)
theorem dX10_take_52 : decode cX10_take 52 = .ok (.bipush 15, 2) := dk_16 15 (dk_at dksX10_take_2 6 rfl rfl)
theorem dX10_take_54 : decode cX10_take 54 = .ok (.iadd, 1) := dk_96 (dk_at dksX10_take_2 8 rfl rfl)
theorem dX10_take_55 : decode cX10_take 55 = .ok (.iload_n 3, 1) := dk_29 (dk_at dksX10_take_2 9 rfl rfl)
theorem dX10_take_56 : decode cX10_take 56 = .ok (.iadd, 1) := dk_96 (dk_at dksX10_take_2 10 rfl rfl)
theorem dX10_take_57 : decode cX10_take 57 = .ok (.iaload, 1) := dk_46 (dk_at dksX10_take_2 11 rfl rfl)
theorem dX10_take_58 : decode cX10_take 58 = .ok (.iastore, 1) := dk_79 (dk_at dksX10_take_2 12 rfl rfl)
theorem dX10_take_59 : decode cX10_take 59 = .ok (.iinc 3 1, 3) := dk_132 3 1 (dk_at dksX10_take_2 13 rfl rfl)
theorem dX10_take_62 : decode cX10_take 62 = .ok (.goto (-60), 3) := dk_167 255 196 (dk_at dksX10_take_2 16 rfl rfl)
theorem dX10_take_65 : decode cX10_take 65 = .ok (.aload_n 0, 1) := dk_42 (dk_at dksX10_take_2 19 rfl rfl)
theorem dX10_take_66 : decode cX10_take 66 = .ok (.getfield 112, 3) := dk_180 0 112 (dk_at dksX10_take_2 20 rfl rfl)
theorem dX10_take_69 : decode cX10_take 69 = .ok (.iconst 0, 1) := dk_3 (dk_at dksX10_take_2 23 rfl rfl)
theorem dX10_take_70 : decode cX10_take 70 = .ok (.aload_n 1, 1) := dk_43 (dk_at dksX10_take_3 0 rfl rfl)
theorem dX10_take_71 : decode cX10_take 71 = .ok (.iload_n 2, 1) := dk_28 (dk_at dksX10_take_3 1 rfl rfl)
theorem dX10_take_72 : decode cX10_take 72 = .ok (.bipush 20, 2) := dk_16 20 (dk_at dksX10_take_3 2 rfl rfl)
theorem dX10_take_74 : decode cX10_take 74 = .ok (.iadd, 1) := dk_96 (dk_at dksX10_take_3 4 rfl rfl)
theorem dX10_take_75 : decode cX10_take 75 = .ok (.iaload, 1) := dk_46 (dk_at dksX10_take_3 5 rfl rfl)
theorem dX10_take_76 : decode cX10_take 76 = .ok (.iastore, 1) := dk_79 (dk_at dksX10_take_3 6 rfl rfl)
theorem dX10_take_77 : decode cX10_take 77 = .ok (.aload_n 0, 1) := dk_42 (dk_at dksX10_take_3 7 rfl rfl)
theorem dX10_take_78 : decode cX10_take 78 = .ok (.aload_n 1, 1) := dk_43 (dk_at dksX10_take_3 8 rfl rfl)
theorem dX10_take_79 : decode cX10_take 79 = .ok (.iload_n 2, 1) := dk_28 (dk_at dksX10_take_3 9 rfl rfl)
theorem dX10_take_80 : decode cX10_take 80 = .ok (.bipush 21, 2) := dk_16 21 (dk_at dksX10_take_3 10 rfl rfl)
theorem dX10_take_82 : decode cX10_take 82 = .ok (.iadd, 1) := dk_96 (dk_at dksX10_take_3 12 rfl rfl)
theorem dX10_take_83 : decode cX10_take 83 = .ok (.iaload, 1) := dk_46 (dk_at dksX10_take_3 13 rfl rfl)
theorem dX10_take_84 : decode cX10_take 84 = .ok (.putfield 364, 3) := dk_181 1 108 (dk_at dksX10_take_3 14 rfl rfl)
theorem dX10_take_87 : decode cX10_take 87 = .ok (.return_, 1) := dk_177 (dk_at dksX10_take_3 17 rfl rfl)
def dkwX10_keep_1 : List UInt8 := [181, 2, 31, 42, 180, 0, 112, 3, 46, 172]
abbrev dktX10_keep_1 : List UInt8 := dkwX10_keep_1 ++ []
def dkwX10_keep_0 : List UInt8 := [42, 3, 181, 0, 148, 42, 4, 181, 1, 124, 42, 42, 180, 0, 139, 3, 182, 2, 25, 42, 42, 180, 1, 111]
abbrev dktX10_keep_0 : List UInt8 := dkwX10_keep_0 ++ dktX10_keep_1
theorem dksX10_keep_0 : cX10_keep.data.toList.drop 0 = dktX10_keep_0 := by decide +kernel
theorem dksX10_keep_1 : cX10_keep.data.toList.drop 24 = dktX10_keep_1 := dk_seg dksX10_keep_0 24 rfl rfl
theorem dX10_keep_0 : decode cX10_keep 0 = .ok (.aload_n 0, 1) := dk_42 (dk_at dksX10_keep_0 0 rfl rfl)
theorem dX10_keep_1 : decode cX10_keep 1 = .ok (.iconst 0, 1) := dk_3 (dk_at dksX10_keep_0 1 rfl rfl)
theorem dX10_keep_2 : decode cX10_keep 2 = .ok (.putfield 148, 3) := dk_181 0 148 (dk_at dksX10_keep_0 2 rfl rfl)
theorem dX10_keep_5 : decode cX10_keep 5 = .ok (.aload_n 0, 1) := dk_42 (dk_at dksX10_keep_0 5 rfl rfl)
theorem dX10_keep_6 : decode cX10_keep 6 = .ok (.iconst 1, 1) := dk_4 (dk_at dksX10_keep_0 6 rfl rfl)
theorem dX10_keep_7 : decode cX10_keep 7 = .ok (.putfield 380, 3) := dk_181 1 124 (dk_at dksX10_keep_0 7 rfl rfl)
theorem dX10_keep_10 : decode cX10_keep 10 = .ok (.aload_n 0, 1) := dk_42 (dk_at dksX10_keep_0 10 rfl rfl)
theorem dX10_keep_11 : decode cX10_keep 11 = .ok (.aload_n 0, 1) := dk_42 (dk_at dksX10_keep_0 11 rfl rfl)
theorem dX10_keep_12 : decode cX10_keep 12 = .ok (.getfield 139, 3) := dk_180 0 139 (dk_at dksX10_keep_0 12 rfl rfl)
theorem dX10_keep_15 : decode cX10_keep 15 = .ok (.iconst 0, 1) := dk_3 (dk_at dksX10_keep_0 15 rfl rfl)
theorem dX10_keep_16 : decode cX10_keep 16 = .ok (.invokevirtual 537, 3) := dk_182 2 25 (dk_at dksX10_keep_0 16 rfl rfl)
theorem dX10_keep_19 : decode cX10_keep 19 = .ok (.aload_n 0, 1) := dk_42 (dk_at dksX10_keep_0 19 rfl rfl)
theorem dX10_keep_20 : decode cX10_keep 20 = .ok (.aload_n 0, 1) := dk_42 (dk_at dksX10_keep_0 20 rfl rfl)
theorem dX10_keep_21 : decode cX10_keep 21 = .ok (.getfield 367, 3) := dk_180 1 111 (dk_at dksX10_keep_0 21 rfl rfl)
theorem dX10_keep_24 : decode cX10_keep 24 = .ok (.putfield 543, 3) := dk_181 2 31 (dk_at dksX10_keep_1 0 rfl rfl)
theorem dX10_keep_27 : decode cX10_keep 27 = .ok (.aload_n 0, 1) := dk_42 (dk_at dksX10_keep_1 3 rfl rfl)
theorem dX10_keep_28 : decode cX10_keep 28 = .ok (.getfield 112, 3) := dk_180 0 112 (dk_at dksX10_keep_1 4 rfl rfl)
theorem dX10_keep_31 : decode cX10_keep 31 = .ok (.iconst 0, 1) := dk_3 (dk_at dksX10_keep_1 7 rfl rfl)
theorem dX10_keep_32 : decode cX10_keep 32 = .ok (.iaload, 1) := dk_46 (dk_at dksX10_keep_1 8 rfl rfl)
theorem dX10_keep_33 : decode cX10_keep 33 = .ok (.ireturn, 1) := dk_172 (dk_at dksX10_keep_1 9 rfl rfl)
def dkwX10_back_1 : List UInt8 := [42, 180, 2, 31, 181, 1, 111, 42, 3, 181, 1, 121, 42, 180, 0, 112, 3, 46, 172]
abbrev dktX10_back_1 : List UInt8 := dkwX10_back_1 ++ []
def dkwX10_back_0 : List UInt8 := [42, 3, 181, 0, 148, 42, 180, 1, 124, 154, 0, 5, 2, 172, 42, 42, 180, 0, 139, 3, 182, 2, 28, 42]
abbrev dktX10_back_0 : List UInt8 := dkwX10_back_0 ++ dktX10_back_1
theorem dksX10_back_0 : cX10_back.data.toList.drop 0 = dktX10_back_0 := by decide +kernel
theorem dksX10_back_1 : cX10_back.data.toList.drop 24 = dktX10_back_1 := dk_seg dksX10_back_0 24 rfl rfl
theorem dX10_back_0 : decode cX10_back 0 = .ok (.aload_n 0, 1) := dk_42 (dk_at dksX10_back_0 0 rfl rfl)
theorem dX10_back_1 : decode cX10_back 1 = .ok (.iconst 0, 1) := dk_3 (dk_at dksX10_back_0 1 rfl rfl)
theorem dX10_back_2 : decode cX10_back 2 = .ok (.putfield 148, 3) := dk_181 0 148 (dk_at dksX10_back_0 2 rfl rfl)
theorem dX10_back_5 : decode cX10_back 5 = .ok (.aload_n 0, 1) := dk_42 (dk_at dksX10_back_0 5 rfl rfl)
theorem dX10_back_6 : decode cX10_back 6 = .ok (.getfield 380, 3) := dk_180 1 124 (dk_at dksX10_back_0 6 rfl rfl)
theorem dX10_back_9 : decode cX10_back 9 = .ok (.ifCond .ne 5, 3) := dk_154 0 5 (dk_at dksX10_back_0 9 rfl rfl)
theorem dX10_back_12 : decode cX10_back 12 = .ok (.iconst (-1), 1) := dk_2 (dk_at dksX10_back_0 12 rfl rfl)
theorem dX10_back_13 : decode cX10_back 13 = .ok (.ireturn, 1) := dk_172 (dk_at dksX10_back_0 13 rfl rfl)
theorem dX10_back_14 : decode cX10_back 14 = .ok (.aload_n 0, 1) := dk_42 (dk_at dksX10_back_0 14 rfl rfl)
theorem dX10_back_15 : decode cX10_back 15 = .ok (.aload_n 0, 1) := dk_42 (dk_at dksX10_back_0 15 rfl rfl)
theorem dX10_back_16 : decode cX10_back 16 = .ok (.getfield 139, 3) := dk_180 0 139 (dk_at dksX10_back_0 16 rfl rfl)
theorem dX10_back_19 : decode cX10_back 19 = .ok (.iconst 0, 1) := dk_3 (dk_at dksX10_back_0 19 rfl rfl)
theorem dX10_back_20 : decode cX10_back 20 = .ok (.invokevirtual 540, 3) := dk_182 2 28 (dk_at dksX10_back_0 20 rfl rfl)
theorem dX10_back_23 : decode cX10_back 23 = .ok (.aload_n 0, 1) := dk_42 (dk_at dksX10_back_0 23 rfl rfl)
theorem dX10_back_24 : decode cX10_back 24 = .ok (.aload_n 0, 1) := dk_42 (dk_at dksX10_back_1 0 rfl rfl)
theorem dX10_back_25 : decode cX10_back 25 = .ok (.getfield 543, 3) := dk_180 2 31 (dk_at dksX10_back_1 1 rfl rfl)
theorem dX10_back_28 : decode cX10_back 28 = .ok (.putfield 367, 3) := dk_181 1 111 (dk_at dksX10_back_1 4 rfl rfl)
theorem dX10_back_31 : decode cX10_back 31 = .ok (.aload_n 0, 1) := dk_42 (dk_at dksX10_back_1 7 rfl rfl)
theorem dX10_back_32 : decode cX10_back 32 = .ok (.iconst 0, 1) := dk_3 (dk_at dksX10_back_1 8 rfl rfl)
theorem dX10_back_33 : decode cX10_back 33 = .ok (.putfield 377, 3) := dk_181 1 121 (dk_at dksX10_back_1 9 rfl rfl)
theorem dX10_back_36 : decode cX10_back 36 = .ok (.aload_n 0, 1) := dk_42 (dk_at dksX10_back_1 12 rfl rfl)
theorem dX10_back_37 : decode cX10_back 37 = .ok (.getfield 112, 3) := dk_180 0 112 (dk_at dksX10_back_1 13 rfl rfl)
theorem dX10_back_40 : decode cX10_back 40 = .ok (.iconst 0, 1) := dk_3 (dk_at dksX10_back_1 16 rfl rfl)
theorem dX10_back_41 : decode cX10_back 41 = .ok (.iaload, 1) := dk_46 (dk_at dksX10_back_1 17 rfl rfl)
theorem dX10_back_42 : decode cX10_back 42 = .ok (.ireturn, 1) := dk_172 (dk_at dksX10_back_1 18 rfl rfl)
def dkwX10_count_6 : List UInt8 := [180, 1, 118, 172, 42, 182, 2, 16, 172, 42, 180, 1, 121, 172, 2, 172]
abbrev dktX10_count_6 : List UInt8 := dkwX10_count_6 ++ []
def dkwX10_count_5 : List UInt8 := [28, 42, 180, 0, 103, 29, 46, 96, 61, 132, 3, 1, 167, 255, 236, 28, 172, 42, 180, 1, 108, 172, 42]
abbrev dktX10_count_5 : List UInt8 := dkwX10_count_5 ++ dktX10_count_6
def dkwX10_count_4 : List UInt8 := [46, 184, 1, 151, 96, 61, 132, 3, 1, 167, 255, 233, 28, 172, 3, 62, 29, 42, 180, 0, 231, 162, 0, 18]
abbrev dktX10_count_4 : List UInt8 := dkwX10_count_4 ++ dktX10_count_5
def dkwX10_count_3 : List UInt8 := [172, 42, 180, 0, 112, 3, 46, 172, 3, 62, 29, 42, 180, 0, 231, 162, 0, 21, 28, 42, 180, 0, 100, 29]
abbrev dktX10_count_3 : List UInt8 := dkwX10_count_3 ++ dktX10_count_4
def dkwX10_count_2 : List UInt8 := [42, 180, 0, 228, 172, 42, 180, 0, 231, 172, 42, 180, 0, 234, 172, 42, 180, 0, 237, 172, 42, 180, 0, 240]
abbrev dktX10_count_2 : List UInt8 := dkwX10_count_2 ++ dktX10_count_3
def dkwX10_count_1 : List UInt8 := [170, 0, 0, 0, 0, 0, 0, 173, 0, 0, 0, 0, 0, 0, 0, 11, 0, 0, 0, 64, 0, 0, 0, 69, 0, 0, 0, 74, 0, 0, 0, 79, 0, 0, 0, 84, 0, 0, 0, 89, 0, 0, 0, 96, 0, 0, 0, 126, 0, 0, 0, 153, 0, 0, 0, 158, 0, 0, 0, 163, 0, 0, 0, 168]
abbrev dktX10_count_1 : List UInt8 := dkwX10_count_1 ++ dktX10_count_2
def dkwX10_count_0 : List UInt8 := [42, 3, 181, 0, 148, 3, 61, 27]
abbrev dktX10_count_0 : List UInt8 := dkwX10_count_0 ++ dktX10_count_1
theorem dksX10_count_0 : cX10_count.data.toList.drop 0 = dktX10_count_0 := by decide +kernel
theorem dksX10_count_1 : cX10_count.data.toList.drop 8 = dktX10_count_1 := dk_seg dksX10_count_0 8 rfl rfl
theorem dksX10_count_2 : cX10_count.data.toList.drop 72 = dktX10_count_2 := dk_seg dksX10_count_1 64 rfl rfl
theorem dksX10_count_3 : cX10_count.data.toList.drop 96 = dktX10_count_3 := dk_seg dksX10_count_2 24 rfl rfl
theorem dksX10_count_4 : cX10_count.data.toList.drop 120 = dktX10_count_4 := dk_seg dksX10_count_3 24 rfl rfl
theorem dksX10_count_5 : cX10_count.data.toList.drop 144 = dktX10_count_5 := dk_seg dksX10_count_4 24 rfl rfl
theorem dksX10_count_6 : cX10_count.data.toList.drop 167 = dktX10_count_6 := dk_seg dksX10_count_5 23 rfl rfl
theorem dX10_count_0 : decode cX10_count 0 = .ok (.aload_n 0, 1) := dk_42 (dk_at dksX10_count_0 0 rfl rfl)
theorem dX10_count_1 : decode cX10_count 1 = .ok (.iconst 0, 1) := dk_3 (dk_at dksX10_count_0 1 rfl rfl)
theorem dX10_count_2 : decode cX10_count 2 = .ok (.putfield 148, 3) := dk_181 0 148 (dk_at dksX10_count_0 2 rfl rfl)
theorem dX10_count_5 : decode cX10_count 5 = .ok (.iconst 0, 1) := dk_3 (dk_at dksX10_count_0 5 rfl rfl)
theorem dX10_count_6 : decode cX10_count 6 = .ok (.istore_n 2, 1) := dk_61 (dk_at dksX10_count_0 6 rfl rfl)
theorem dX10_count_7 : decode cX10_count 7 = .ok (.iload_n 1, 1) := dk_27 (dk_at dksX10_count_0 7 rfl rfl)
theorem dX10_count_8 : decode cX10_count 8 = .ok (.tableswitch 173 0 11 #[64, 69, 74, 79, 84, 89, 96, 126, 153, 158, 163, 168], 64) := by decide +kernel
theorem dX10_count_72 : decode cX10_count 72 = .ok (.aload_n 0, 1) := dk_42 (dk_at dksX10_count_2 0 rfl rfl)
theorem dX10_count_73 : decode cX10_count 73 = .ok (.getfield 228, 3) := dk_180 0 228 (dk_at dksX10_count_2 1 rfl rfl)
theorem dX10_count_76 : decode cX10_count 76 = .ok (.ireturn, 1) := dk_172 (dk_at dksX10_count_2 4 rfl rfl)
theorem dX10_count_77 : decode cX10_count 77 = .ok (.aload_n 0, 1) := dk_42 (dk_at dksX10_count_2 5 rfl rfl)
theorem dX10_count_78 : decode cX10_count 78 = .ok (.getfield 231, 3) := dk_180 0 231 (dk_at dksX10_count_2 6 rfl rfl)
theorem dX10_count_81 : decode cX10_count 81 = .ok (.ireturn, 1) := dk_172 (dk_at dksX10_count_2 9 rfl rfl)
theorem dX10_count_82 : decode cX10_count 82 = .ok (.aload_n 0, 1) := dk_42 (dk_at dksX10_count_2 10 rfl rfl)
theorem dX10_count_83 : decode cX10_count 83 = .ok (.getfield 234, 3) := dk_180 0 234 (dk_at dksX10_count_2 11 rfl rfl)
theorem dX10_count_86 : decode cX10_count 86 = .ok (.ireturn, 1) := dk_172 (dk_at dksX10_count_2 14 rfl rfl)
theorem dX10_count_87 : decode cX10_count 87 = .ok (.aload_n 0, 1) := dk_42 (dk_at dksX10_count_2 15 rfl rfl)
theorem dX10_count_88 : decode cX10_count 88 = .ok (.getfield 237, 3) := dk_180 0 237 (dk_at dksX10_count_2 16 rfl rfl)
theorem dX10_count_91 : decode cX10_count 91 = .ok (.ireturn, 1) := dk_172 (dk_at dksX10_count_2 19 rfl rfl)
theorem dX10_count_92 : decode cX10_count 92 = .ok (.aload_n 0, 1) := dk_42 (dk_at dksX10_count_2 20 rfl rfl)
theorem dX10_count_93 : decode cX10_count 93 = .ok (.getfield 240, 3) := dk_180 0 240 (dk_at dksX10_count_2 21 rfl rfl)
theorem dX10_count_96 : decode cX10_count 96 = .ok (.ireturn, 1) := dk_172 (dk_at dksX10_count_3 0 rfl rfl)
theorem dX10_count_97 : decode cX10_count 97 = .ok (.aload_n 0, 1) := dk_42 (dk_at dksX10_count_3 1 rfl rfl)
theorem dX10_count_98 : decode cX10_count 98 = .ok (.getfield 112, 3) := dk_180 0 112 (dk_at dksX10_count_3 2 rfl rfl)
theorem dX10_count_101 : decode cX10_count 101 = .ok (.iconst 0, 1) := dk_3 (dk_at dksX10_count_3 5 rfl rfl)
theorem dX10_count_102 : decode cX10_count 102 = .ok (.iaload, 1) := dk_46 (dk_at dksX10_count_3 6 rfl rfl)
theorem dX10_count_103 : decode cX10_count 103 = .ok (.ireturn, 1) := dk_172 (dk_at dksX10_count_3 7 rfl rfl)
theorem dX10_count_104 : decode cX10_count 104 = .ok (.iconst 0, 1) := dk_3 (dk_at dksX10_count_3 8 rfl rfl)
theorem dX10_count_105 : decode cX10_count 105 = .ok (.istore_n 3, 1) := dk_62 (dk_at dksX10_count_3 9 rfl rfl)
theorem dX10_count_106 : decode cX10_count 106 = .ok (.iload_n 3, 1) := dk_29 (dk_at dksX10_count_3 10 rfl rfl)
theorem dX10_count_107 : decode cX10_count 107 = .ok (.aload_n 0, 1) := dk_42 (dk_at dksX10_count_3 11 rfl rfl)
theorem dX10_count_108 : decode cX10_count 108 = .ok (.getfield 231, 3) := dk_180 0 231 (dk_at dksX10_count_3 12 rfl rfl)
theorem dX10_count_111 : decode cX10_count 111 = .ok (.if_icmp .ge 21, 3) := dk_162 0 21 (dk_at dksX10_count_3 15 rfl rfl)
theorem dX10_count_114 : decode cX10_count 114 = .ok (.iload_n 2, 1) := dk_28 (dk_at dksX10_count_3 18 rfl rfl)
theorem dX10_count_115 : decode cX10_count 115 = .ok (.aload_n 0, 1) := dk_42 (dk_at dksX10_count_3 19 rfl rfl)
theorem dX10_count_116 : decode cX10_count 116 = .ok (.getfield 100, 3) := dk_180 0 100 (dk_at dksX10_count_3 20 rfl rfl)
theorem dX10_count_119 : decode cX10_count 119 = .ok (.iload_n 3, 1) := dk_29 (dk_at dksX10_count_3 23 rfl rfl)
theorem dX10_count_120 : decode cX10_count 120 = .ok (.iaload, 1) := dk_46 (dk_at dksX10_count_4 0 rfl rfl)
theorem dX10_count_121 : decode cX10_count 121 = .ok (.invokestatic 407, 3) := dk_184 1 151 (dk_at dksX10_count_4 1 rfl rfl)
theorem dX10_count_124 : decode cX10_count 124 = .ok (.iadd, 1) := dk_96 (dk_at dksX10_count_4 4 rfl rfl)
theorem dX10_count_125 : decode cX10_count 125 = .ok (.istore_n 2, 1) := dk_61 (dk_at dksX10_count_4 5 rfl rfl)
theorem dX10_count_126 : decode cX10_count 126 = .ok (.iinc 3 1, 3) := dk_132 3 1 (dk_at dksX10_count_4 6 rfl rfl)
theorem dX10_count_129 : decode cX10_count 129 = .ok (.goto (-23), 3) := dk_167 255 233 (dk_at dksX10_count_4 9 rfl rfl)
theorem dX10_count_132 : decode cX10_count 132 = .ok (.iload_n 2, 1) := dk_28 (dk_at dksX10_count_4 12 rfl rfl)
theorem dX10_count_133 : decode cX10_count 133 = .ok (.ireturn, 1) := dk_172 (dk_at dksX10_count_4 13 rfl rfl)
theorem dX10_count_134 : decode cX10_count 134 = .ok (.iconst 0, 1) := dk_3 (dk_at dksX10_count_4 14 rfl rfl)
theorem dX10_count_135 : decode cX10_count 135 = .ok (.istore_n 3, 1) := dk_62 (dk_at dksX10_count_4 15 rfl rfl)
theorem dX10_count_136 : decode cX10_count 136 = .ok (.iload_n 3, 1) := dk_29 (dk_at dksX10_count_4 16 rfl rfl)
theorem dX10_count_137 : decode cX10_count 137 = .ok (.aload_n 0, 1) := dk_42 (dk_at dksX10_count_4 17 rfl rfl)
theorem dX10_count_138 : decode cX10_count 138 = .ok (.getfield 231, 3) := dk_180 0 231 (dk_at dksX10_count_4 18 rfl rfl)
theorem dX10_count_141 : decode cX10_count 141 = .ok (.if_icmp .ge 18, 3) := dk_162 0 18 (dk_at dksX10_count_4 21 rfl rfl)
theorem dX10_count_144 : decode cX10_count 144 = .ok (.iload_n 2, 1) := dk_28 (dk_at dksX10_count_5 0 rfl rfl)
theorem dX10_count_145 : decode cX10_count 145 = .ok (.aload_n 0, 1) := dk_42 (dk_at dksX10_count_5 1 rfl rfl)
theorem dX10_count_146 : decode cX10_count 146 = .ok (.getfield 103, 3) := dk_180 0 103 (dk_at dksX10_count_5 2 rfl rfl)
theorem dX10_count_149 : decode cX10_count 149 = .ok (.iload_n 3, 1) := dk_29 (dk_at dksX10_count_5 5 rfl rfl)
theorem dX10_count_150 : decode cX10_count 150 = .ok (.iaload, 1) := dk_46 (dk_at dksX10_count_5 6 rfl rfl)
theorem dX10_count_151 : decode cX10_count 151 = .ok (.iadd, 1) := dk_96 (dk_at dksX10_count_5 7 rfl rfl)
theorem dX10_count_152 : decode cX10_count 152 = .ok (.istore_n 2, 1) := dk_61 (dk_at dksX10_count_5 8 rfl rfl)
theorem dX10_count_153 : decode cX10_count 153 = .ok (.iinc 3 1, 3) := dk_132 3 1 (dk_at dksX10_count_5 9 rfl rfl)
theorem dX10_count_156 : decode cX10_count 156 = .ok (.goto (-20), 3) := dk_167 255 236 (dk_at dksX10_count_5 12 rfl rfl)
theorem dX10_count_159 : decode cX10_count 159 = .ok (.iload_n 2, 1) := dk_28 (dk_at dksX10_count_5 15 rfl rfl)
theorem dX10_count_160 : decode cX10_count 160 = .ok (.ireturn, 1) := dk_172 (dk_at dksX10_count_5 16 rfl rfl)
theorem dX10_count_161 : decode cX10_count 161 = .ok (.aload_n 0, 1) := dk_42 (dk_at dksX10_count_5 17 rfl rfl)
theorem dX10_count_162 : decode cX10_count 162 = .ok (.getfield 364, 3) := dk_180 1 108 (dk_at dksX10_count_5 18 rfl rfl)
theorem dX10_count_165 : decode cX10_count 165 = .ok (.ireturn, 1) := dk_172 (dk_at dksX10_count_5 21 rfl rfl)
theorem dX10_count_166 : decode cX10_count 166 = .ok (.aload_n 0, 1) := dk_42 (dk_at dksX10_count_5 22 rfl rfl)
theorem dX10_count_167 : decode cX10_count 167 = .ok (.getfield 374, 3) := dk_180 1 118 (dk_at dksX10_count_6 0 rfl rfl)
theorem dX10_count_170 : decode cX10_count 170 = .ok (.ireturn, 1) := dk_172 (dk_at dksX10_count_6 3 rfl rfl)
theorem dX10_count_171 : decode cX10_count 171 = .ok (.aload_n 0, 1) := dk_42 (dk_at dksX10_count_6 4 rfl rfl)
theorem dX10_count_172 : decode cX10_count 172 = .ok (.invokevirtual 528, 3) := dk_182 2 16 (dk_at dksX10_count_6 5 rfl rfl)
theorem dX10_count_175 : decode cX10_count 175 = .ok (.ireturn, 1) := dk_172 (dk_at dksX10_count_6 8 rfl rfl)
theorem dX10_count_176 : decode cX10_count 176 = .ok (.aload_n 0, 1) := dk_42 (dk_at dksX10_count_6 9 rfl rfl)
theorem dX10_count_177 : decode cX10_count 177 = .ok (.getfield 377, 3) := dk_180 1 121 (dk_at dksX10_count_6 10 rfl rfl)
theorem dX10_count_180 : decode cX10_count 180 = .ok (.ireturn, 1) := dk_172 (dk_at dksX10_count_6 13 rfl rfl)
theorem dX10_count_181 : decode cX10_count 181 = .ok (.iconst (-1), 1) := dk_2 (dk_at dksX10_count_6 14 rfl rfl)
theorem dX10_count_182 : decode cX10_count 182 = .ok (.ireturn, 1) := dk_172 (dk_at dksX10_count_6 15 rfl rfl)
